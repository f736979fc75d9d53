/-! SeanceStreetModel$Town -/
set_option maxRecDepth 100000
def RX15 : String := "SeanceStreetModel$Town"
def TX15 : u_T := fun k => match k with
  | 0 => ("SeanceStreetModel$Town", "houses", "I", false)
  | 1 => ("SeanceStreetModel$Town", "lips", "I", false)
  | 2 => ("SeanceStreetModel$Town", "people", "I", false)
  | 3 => ("SeanceStreetModel$Town", "dead", "I", false)
  | 4 => ("SeanceStreetModel$Town", "mirrors", "I", false)
  | 5 => ("SeanceStreetModel$Town", "unsures", "I", false)
  | 6 => ("SeanceStreetModel$Town", "heards", "I", false)
  | 7 => ("SeanceStreetModel$Town", "names", "I", false)
  | 8 => ("SeanceStreetModel$Town", "house", "[I", true)
  | 9 => ("SeanceStreetModel$Town", "law", "[I", true)
  | 10 => ("SeanceStreetModel$Town", "slip", "[I", true)
  | 11 => ("SeanceStreetModel$Town", "of", "[I", true)
  | 12 => ("SeanceStreetModel$Town", "mirror", "[I", true)
  | 13 => ("SeanceStreetModel$Town", "unsure", "[I", true)
  | 14 => ("SeanceStreetModel$Town", "other", "[I", true)
  | 15 => ("SeanceStreetModel$Town", "heardBy", "[I", true)
  | 16 => ("SeanceStreetModel$Town", "heard", "[I", true)
  | 17 => ("SeanceStreetModel$Town", "heardIn", "[I", true)
  | 18 => ("SeanceStreetModel$Town", "name", "[J", true)
  | 19 => ("SeanceStreetModel$Town", "nameSort", "[I", true)
  | _ => ("SeanceStreetModel$Town", "numberOf", "[I", true)
def tyX15 : Nat → FieldType := fun k => match k with
  | 0 => .int
  | 1 => .int
  | 2 => .int
  | 3 => .int
  | 4 => .int
  | 5 => .int
  | 6 => .int
  | 7 => .int
  | 8 => .array .int
  | 9 => .array .int
  | 10 => .array .int
  | 11 => .array .int
  | 12 => .array .int
  | 13 => .array .int
  | 14 => .array .int
  | 15 => .array .int
  | 16 => .array .int
  | 17 => .array .int
  | 18 => .array .long
  | 19 => .array .int
  | _ => .array .int
abbrev wsX150 : List Cond := u_ws RX15 TX15 21
set_option maxRecDepth 100000 in
theorem nmX15 : ∀ a, a < 21 → ∀ b, b < 21 → a ≠ b → (TX15 a).2.1 ≠ (TX15 b).2.1 := by decide +kernel
set_option maxRecDepth 100000 in
theorem tyX15_ok : ∀ k, k < 21 → parseFieldDescriptor (TX15 k).2.2.1 = some (tyX15 k) := by decide +kernel
abbrev cX15_init : ByteArray := prog_16_method_1_code
def yX15_init : MethodName := ⟨RX15, "<init>", "()V"⟩
def dkwX15_init_4 : List UInt8 := [188, 10, 181, 0, 46, 42, 16, 12, 188, 10, 181, 0, 49, 177]
abbrev dktX15_init_4 : List UInt8 := dkwX15_init_4 ++ []
def dkwX15_init_3 : List UInt8 := [188, 10, 181, 0, 36, 42, 16, 8, 188, 10, 181, 0, 39, 42, 16, 12, 188, 11, 181, 0, 42, 42, 16, 12]
abbrev dktX15_init_3 : List UInt8 := dkwX15_init_3 ++ dktX15_init_4
def dkwX15_init_2 : List UInt8 := [188, 10, 181, 0, 27, 42, 7, 188, 10, 181, 0, 30, 42, 16, 8, 188, 10, 181, 0, 33, 42, 16, 8]
abbrev dktX15_init_2 : List UInt8 := dkwX15_init_2 ++ dktX15_init_3
def dkwX15_init_1 : List UInt8 := [188, 10, 181, 0, 18, 42, 16, 6, 188, 10, 181, 0, 21, 42, 16, 6, 188, 10, 181, 0, 24, 42, 7]
abbrev dktX15_init_1 : List UInt8 := dkwX15_init_1 ++ dktX15_init_2
def dkwX15_init_0 : List UInt8 := [42, 183, 0, 3, 42, 16, 6, 188, 10, 181, 0, 9, 42, 16, 6, 188, 10, 181, 0, 15, 42, 16, 6]
abbrev dktX15_init_0 : List UInt8 := dkwX15_init_0 ++ dktX15_init_1
theorem dksX15_init_0 : cX15_init.data.toList.drop 0 = dktX15_init_0 := by decide +kernel
theorem dksX15_init_1 : cX15_init.data.toList.drop 23 = dktX15_init_1 := dk_seg dksX15_init_0 23 rfl rfl
theorem dksX15_init_2 : cX15_init.data.toList.drop 46 = dktX15_init_2 := dk_seg dksX15_init_1 23 rfl rfl
theorem dksX15_init_3 : cX15_init.data.toList.drop 69 = dktX15_init_3 := dk_seg dksX15_init_2 23 rfl rfl
theorem dksX15_init_4 : cX15_init.data.toList.drop 93 = dktX15_init_4 := dk_seg dksX15_init_3 24 rfl rfl
theorem dX15_init_0 : decode cX15_init 0 = .ok (.aload_n 0, 1) := dk_42 (dk_at dksX15_init_0 0 rfl rfl)
theorem dX15_init_1 : decode cX15_init 1 = .ok (.invokespecial 3, 3) := dk_183 0 3 (dk_at dksX15_init_0 1 rfl rfl)
theorem dX15_init_4 : decode cX15_init 4 = .ok (.aload_n 0, 1) := dk_42 (dk_at dksX15_init_0 4 rfl rfl)
theorem dX15_init_5 : decode cX15_init 5 = .ok (.bipush 6, 2) := dk_16 6 (dk_at dksX15_init_0 5 rfl rfl)
theorem dX15_init_7 : decode cX15_init 7 = .ok (.newarray .int, 2) := dk_188_10 (dk_at dksX15_init_0 7 rfl rfl)
theorem dX15_init_9 : decode cX15_init 9 = .ok (.putfield 9, 3) := dk_181 0 9 (dk_at dksX15_init_0 9 rfl rfl)
theorem dX15_init_12 : decode cX15_init 12 = .ok (.aload_n 0, 1) := dk_42 (dk_at dksX15_init_0 12 rfl rfl)
theorem dX15_init_13 : decode cX15_init 13 = .ok (.bipush 6, 2) := dk_16 6 (dk_at dksX15_init_0 13 rfl rfl)
theorem dX15_init_15 : decode cX15_init 15 = .ok (.newarray .int, 2) := dk_188_10 (dk_at dksX15_init_0 15 rfl rfl)
theorem dX15_init_17 : decode cX15_init 17 = .ok (.putfield 15, 3) := dk_181 0 15 (dk_at dksX15_init_0 17 rfl rfl)
theorem dX15_init_20 : decode cX15_init 20 = .ok (.aload_n 0, 1) := dk_42 (dk_at dksX15_init_0 20 rfl rfl)
theorem dX15_init_21 : decode cX15_init 21 = .ok (.bipush 6, 2) := dk_16 6 (dk_at dksX15_init_0 21 rfl rfl)
theorem dX15_init_23 : decode cX15_init 23 = .ok (.newarray .int, 2) := dk_188_10 (dk_at dksX15_init_1 0 rfl rfl)
theorem dX15_init_25 : decode cX15_init 25 = .ok (.putfield 18, 3) := dk_181 0 18 (dk_at dksX15_init_1 2 rfl rfl)
theorem dX15_init_28 : decode cX15_init 28 = .ok (.aload_n 0, 1) := dk_42 (dk_at dksX15_init_1 5 rfl rfl)
theorem dX15_init_29 : decode cX15_init 29 = .ok (.bipush 6, 2) := dk_16 6 (dk_at dksX15_init_1 6 rfl rfl)
theorem dX15_init_31 : decode cX15_init 31 = .ok (.newarray .int, 2) := dk_188_10 (dk_at dksX15_init_1 8 rfl rfl)
theorem dX15_init_33 : decode cX15_init 33 = .ok (.putfield 21, 3) := dk_181 0 21 (dk_at dksX15_init_1 10 rfl rfl)
theorem dX15_init_36 : decode cX15_init 36 = .ok (.aload_n 0, 1) := dk_42 (dk_at dksX15_init_1 13 rfl rfl)
theorem dX15_init_37 : decode cX15_init 37 = .ok (.bipush 6, 2) := dk_16 6 (dk_at dksX15_init_1 14 rfl rfl)
theorem dX15_init_39 : decode cX15_init 39 = .ok (.newarray .int, 2) := dk_188_10 (dk_at dksX15_init_1 16 rfl rfl)
theorem dX15_init_41 : decode cX15_init 41 = .ok (.putfield 24, 3) := dk_181 0 24 (dk_at dksX15_init_1 18 rfl rfl)
theorem dX15_init_44 : decode cX15_init 44 = .ok (.aload_n 0, 1) := dk_42 (dk_at dksX15_init_1 21 rfl rfl)
theorem dX15_init_45 : decode cX15_init 45 = .ok (.iconst 4, 1) := dk_7 (dk_at dksX15_init_1 22 rfl rfl)
theorem dX15_init_46 : decode cX15_init 46 = .ok (.newarray .int, 2) := dk_188_10 (dk_at dksX15_init_2 0 rfl rfl)
theorem dX15_init_48 : decode cX15_init 48 = .ok (.putfield 27, 3) := dk_181 0 27 (dk_at dksX15_init_2 2 rfl rfl)
theorem dX15_init_51 : decode cX15_init 51 = .ok (.aload_n 0, 1) := dk_42 (dk_at dksX15_init_2 5 rfl rfl)
theorem dX15_init_52 : decode cX15_init 52 = .ok (.iconst 4, 1) := dk_7 (dk_at dksX15_init_2 6 rfl rfl)
theorem dX15_init_53 : decode cX15_init 53 = .ok (.newarray .int, 2) := dk_188_10 (dk_at dksX15_init_2 7 rfl rfl)
theorem dX15_init_55 : decode cX15_init 55 = .ok (.putfield 30, 3) := dk_181 0 30 (dk_at dksX15_init_2 9 rfl rfl)
theorem dX15_init_58 : decode cX15_init 58 = .ok (.aload_n 0, 1) := dk_42 (dk_at dksX15_init_2 12 rfl rfl)
theorem dX15_init_59 : decode cX15_init 59 = .ok (.bipush 8, 2) := dk_16 8 (dk_at dksX15_init_2 13 rfl rfl)
theorem dX15_init_61 : decode cX15_init 61 = .ok (.newarray .int, 2) := dk_188_10 (dk_at dksX15_init_2 15 rfl rfl)
theorem dX15_init_63 : decode cX15_init 63 = .ok (.putfield 33, 3) := dk_181 0 33 (dk_at dksX15_init_2 17 rfl rfl)
theorem dX15_init_66 : decode cX15_init 66 = .ok (.aload_n 0, 1) := dk_42 (dk_at dksX15_init_2 20 rfl rfl)
theorem dX15_init_67 : decode cX15_init 67 = .ok (.bipush 8, 2) := dk_16 8 (dk_at dksX15_init_2 21 rfl rfl)
theorem dX15_init_69 : decode cX15_init 69 = .ok (.newarray .int, 2) := dk_188_10 (dk_at dksX15_init_3 0 rfl rfl)
theorem dX15_init_71 : decode cX15_init 71 = .ok (.putfield 36, 3) := dk_181 0 36 (dk_at dksX15_init_3 2 rfl rfl)
theorem dX15_init_74 : decode cX15_init 74 = .ok (.aload_n 0, 1) := dk_42 (dk_at dksX15_init_3 5 rfl rfl)
theorem dX15_init_75 : decode cX15_init 75 = .ok (.bipush 8, 2) := dk_16 8 (dk_at dksX15_init_3 6 rfl rfl)
theorem dX15_init_77 : decode cX15_init 77 = .ok (.newarray .int, 2) := dk_188_10 (dk_at dksX15_init_3 8 rfl rfl)
theorem dX15_init_79 : decode cX15_init 79 = .ok (.putfield 39, 3) := dk_181 0 39 (dk_at dksX15_init_3 10 rfl rfl)
theorem dX15_init_82 : decode cX15_init 82 = .ok (.aload_n 0, 1) := dk_42 (dk_at dksX15_init_3 13 rfl rfl)
theorem dX15_init_83 : decode cX15_init 83 = .ok (.bipush 12, 2) := dk_16 12 (dk_at dksX15_init_3 14 rfl rfl)
theorem dX15_init_85 : decode cX15_init 85 = .ok (.newarray .long, 2) := dk_188_11 (dk_at dksX15_init_3 16 rfl rfl)
theorem dX15_init_87 : decode cX15_init 87 = .ok (.putfield 42, 3) := dk_181 0 42 (dk_at dksX15_init_3 18 rfl rfl)
theorem dX15_init_90 : decode cX15_init 90 = .ok (.aload_n 0, 1) := dk_42 (dk_at dksX15_init_3 21 rfl rfl)
theorem dX15_init_91 : decode cX15_init 91 = .ok (.bipush 12, 2) := dk_16 12 (dk_at dksX15_init_3 22 rfl rfl)
theorem dX15_init_93 : decode cX15_init 93 = .ok (.newarray .int, 2) := dk_188_10 (dk_at dksX15_init_4 0 rfl rfl)
theorem dX15_init_95 : decode cX15_init 95 = .ok (.putfield 46, 3) := dk_181 0 46 (dk_at dksX15_init_4 2 rfl rfl)
theorem dX15_init_98 : decode cX15_init 98 = .ok (.aload_n 0, 1) := dk_42 (dk_at dksX15_init_4 5 rfl rfl)
theorem dX15_init_99 : decode cX15_init 99 = .ok (.bipush 12, 2) := dk_16 12 (dk_at dksX15_init_4 6 rfl rfl)
theorem dX15_init_101 : decode cX15_init 101 = .ok (.newarray .int, 2) := dk_188_10 (dk_at dksX15_init_4 8 rfl rfl)
theorem dX15_init_103 : decode cX15_init 103 = .ok (.putfield 49, 3) := dk_181 0 49 (dk_at dksX15_init_4 10 rfl rfl)
theorem dX15_init_106 : decode cX15_init 106 = .ok (.return_, 1) := dk_177 (dk_at dksX15_init_4 13 rfl rfl)
abbrev cX15_find : ByteArray := prog_16_method_2_code
def yX15_find : MethodName := ⟨RX15, "find", "(J)I"⟩
def dkwX15_find_1 : List UInt8 := [132, 3, 1, 167, 255, 232, 2, 172]
abbrev dktX15_find_1 : List UInt8 := dkwX15_find_1 ++ []
def dkwX15_find_0 : List UInt8 := [3, 62, 29, 42, 180, 0, 52, 162, 0, 22, 42, 180, 0, 42, 29, 47, 31, 148, 154, 0, 5, 29, 172]
abbrev dktX15_find_0 : List UInt8 := dkwX15_find_0 ++ dktX15_find_1
theorem dksX15_find_0 : cX15_find.data.toList.drop 0 = dktX15_find_0 := by decide +kernel
theorem dksX15_find_1 : cX15_find.data.toList.drop 23 = dktX15_find_1 := dk_seg dksX15_find_0 23 rfl rfl
theorem dX15_find_0 : decode cX15_find 0 = .ok (.iconst 0, 1) := dk_3 (dk_at dksX15_find_0 0 rfl rfl)
theorem dX15_find_1 : decode cX15_find 1 = .ok (.istore_n 3, 1) := dk_62 (dk_at dksX15_find_0 1 rfl rfl)
theorem dX15_find_2 : decode cX15_find 2 = .ok (.iload_n 3, 1) := dk_29 (dk_at dksX15_find_0 2 rfl rfl)
theorem dX15_find_3 : decode cX15_find 3 = .ok (.aload_n 0, 1) := dk_42 (dk_at dksX15_find_0 3 rfl rfl)
theorem dX15_find_4 : decode cX15_find 4 = .ok (.getfield 52, 3) := dk_180 0 52 (dk_at dksX15_find_0 4 rfl rfl)
theorem dX15_find_7 : decode cX15_find 7 = .ok (.if_icmp .ge 22, 3) := dk_162 0 22 (dk_at dksX15_find_0 7 rfl rfl)
theorem dX15_find_10 : decode cX15_find 10 = .ok (.aload_n 0, 1) := dk_42 (dk_at dksX15_find_0 10 rfl rfl)
theorem dX15_find_11 : decode cX15_find 11 = .ok (.getfield 42, 3) := dk_180 0 42 (dk_at dksX15_find_0 11 rfl rfl)
theorem dX15_find_14 : decode cX15_find 14 = .ok (.iload_n 3, 1) := dk_29 (dk_at dksX15_find_0 14 rfl rfl)
theorem dX15_find_15 : decode cX15_find 15 = .ok (.laload, 1) := dk_47 (dk_at dksX15_find_0 15 rfl rfl)
theorem dX15_find_16 : decode cX15_find 16 = .ok (.lload_n 1, 1) := dk_31 (dk_at dksX15_find_0 16 rfl rfl)
theorem dX15_find_17 : decode cX15_find 17 = .ok (.lcmp, 1) := dk_148 (dk_at dksX15_find_0 17 rfl rfl)
theorem dX15_find_18 : decode cX15_find 18 = .ok (.ifCond .ne 5, 3) := dk_154 0 5 (dk_at dksX15_find_0 18 rfl rfl)
theorem dX15_find_21 : decode cX15_find 21 = .ok (.iload_n 3, 1) := dk_29 (dk_at dksX15_find_0 21 rfl rfl)
theorem dX15_find_22 : decode cX15_find 22 = .ok (.ireturn, 1) := dk_172 (dk_at dksX15_find_0 22 rfl rfl)
theorem dX15_find_23 : decode cX15_find 23 = .ok (.iinc 3 1, 3) := dk_132 3 1 (dk_at dksX15_find_1 0 rfl rfl)
theorem dX15_find_26 : decode cX15_find 26 = .ok (.goto (-24), 3) := dk_167 255 232 (dk_at dksX15_find_1 3 rfl rfl)
theorem dX15_find_29 : decode cX15_find 29 = .ok (.iconst (-1), 1) := dk_2 (dk_at dksX15_find_1 6 rfl rfl)
theorem dX15_find_30 : decode cX15_find 30 = .ok (.ireturn, 1) := dk_172 (dk_at dksX15_find_1 7 rfl rfl)
abbrev cX15_isTaken : ByteArray := prog_16_method_3_code
def yX15_isTaken : MethodName := ⟨RX15, "isTaken", "(I)Z"⟩
def dkwX15_isTaken_1 : List UInt8 := [132, 2, 1, 167, 255, 233, 3, 172]
abbrev dktX15_isTaken_1 : List UInt8 := dkwX15_isTaken_1 ++ []
def dkwX15_isTaken_0 : List UInt8 := [3, 61, 28, 42, 180, 0, 56, 162, 0, 21, 42, 180, 0, 9, 28, 46, 27, 160, 0, 5, 4, 172]
abbrev dktX15_isTaken_0 : List UInt8 := dkwX15_isTaken_0 ++ dktX15_isTaken_1
theorem dksX15_isTaken_0 : cX15_isTaken.data.toList.drop 0 = dktX15_isTaken_0 := by decide +kernel
theorem dksX15_isTaken_1 : cX15_isTaken.data.toList.drop 22 = dktX15_isTaken_1 := dk_seg dksX15_isTaken_0 22 rfl rfl
theorem dX15_isTaken_0 : decode cX15_isTaken 0 = .ok (.iconst 0, 1) := dk_3 (dk_at dksX15_isTaken_0 0 rfl rfl)
theorem dX15_isTaken_1 : decode cX15_isTaken 1 = .ok (.istore_n 2, 1) := dk_61 (dk_at dksX15_isTaken_0 1 rfl rfl)
theorem dX15_isTaken_2 : decode cX15_isTaken 2 = .ok (.iload_n 2, 1) := dk_28 (dk_at dksX15_isTaken_0 2 rfl rfl)
theorem dX15_isTaken_3 : decode cX15_isTaken 3 = .ok (.aload_n 0, 1) := dk_42 (dk_at dksX15_isTaken_0 3 rfl rfl)
theorem dX15_isTaken_4 : decode cX15_isTaken 4 = .ok (.getfield 56, 3) := dk_180 0 56 (dk_at dksX15_isTaken_0 4 rfl rfl)
theorem dX15_isTaken_7 : decode cX15_isTaken 7 = .ok (.if_icmp .ge 21, 3) := dk_162 0 21 (dk_at dksX15_isTaken_0 7 rfl rfl)
theorem dX15_isTaken_10 : decode cX15_isTaken 10 = .ok (.aload_n 0, 1) := dk_42 (dk_at dksX15_isTaken_0 10 rfl rfl)
theorem dX15_isTaken_11 : decode cX15_isTaken 11 = .ok (.getfield 9, 3) := dk_180 0 9 (dk_at dksX15_isTaken_0 11 rfl rfl)
theorem dX15_isTaken_14 : decode cX15_isTaken 14 = .ok (.iload_n 2, 1) := dk_28 (dk_at dksX15_isTaken_0 14 rfl rfl)
theorem dX15_isTaken_15 : decode cX15_isTaken 15 = .ok (.iaload, 1) := dk_46 (dk_at dksX15_isTaken_0 15 rfl rfl)
theorem dX15_isTaken_16 : decode cX15_isTaken 16 = .ok (.iload_n 1, 1) := dk_27 (dk_at dksX15_isTaken_0 16 rfl rfl)
theorem dX15_isTaken_17 : decode cX15_isTaken 17 = .ok (.if_icmp .ne 5, 3) := dk_160 0 5 (dk_at dksX15_isTaken_0 17 rfl rfl)
theorem dX15_isTaken_20 : decode cX15_isTaken 20 = .ok (.iconst 1, 1) := dk_4 (dk_at dksX15_isTaken_0 20 rfl rfl)
theorem dX15_isTaken_21 : decode cX15_isTaken 21 = .ok (.ireturn, 1) := dk_172 (dk_at dksX15_isTaken_0 21 rfl rfl)
theorem dX15_isTaken_22 : decode cX15_isTaken 22 = .ok (.iinc 2 1, 3) := dk_132 2 1 (dk_at dksX15_isTaken_1 0 rfl rfl)
theorem dX15_isTaken_25 : decode cX15_isTaken 25 = .ok (.goto (-23), 3) := dk_167 255 233 (dk_at dksX15_isTaken_1 3 rfl rfl)
theorem dX15_isTaken_28 : decode cX15_isTaken 28 = .ok (.iconst 0, 1) := dk_3 (dk_at dksX15_isTaken_1 6 rfl rfl)
theorem dX15_isTaken_29 : decode cX15_isTaken 29 = .ok (.ireturn, 1) := dk_172 (dk_at dksX15_isTaken_1 7 rfl rfl)
abbrev cX15_isUnsure : ByteArray := prog_16_method_4_code
def yX15_isUnsure : MethodName := ⟨RX15, "isUnsure", "(I)Z"⟩
def dkwX15_isUnsure_1 : List UInt8 := [132, 2, 1, 167, 255, 233, 3, 172]
abbrev dktX15_isUnsure_1 : List UInt8 := dkwX15_isUnsure_1 ++ []
def dkwX15_isUnsure_0 : List UInt8 := [3, 61, 28, 42, 180, 0, 59, 162, 0, 21, 42, 180, 0, 27, 28, 46, 27, 160, 0, 5, 4, 172]
abbrev dktX15_isUnsure_0 : List UInt8 := dkwX15_isUnsure_0 ++ dktX15_isUnsure_1
theorem dksX15_isUnsure_0 : cX15_isUnsure.data.toList.drop 0 = dktX15_isUnsure_0 := by decide +kernel
theorem dksX15_isUnsure_1 : cX15_isUnsure.data.toList.drop 22 = dktX15_isUnsure_1 := dk_seg dksX15_isUnsure_0 22 rfl rfl
theorem dX15_isUnsure_0 : decode cX15_isUnsure 0 = .ok (.iconst 0, 1) := dk_3 (dk_at dksX15_isUnsure_0 0 rfl rfl)
theorem dX15_isUnsure_1 : decode cX15_isUnsure 1 = .ok (.istore_n 2, 1) := dk_61 (dk_at dksX15_isUnsure_0 1 rfl rfl)
theorem dX15_isUnsure_2 : decode cX15_isUnsure 2 = .ok (.iload_n 2, 1) := dk_28 (dk_at dksX15_isUnsure_0 2 rfl rfl)
theorem dX15_isUnsure_3 : decode cX15_isUnsure 3 = .ok (.aload_n 0, 1) := dk_42 (dk_at dksX15_isUnsure_0 3 rfl rfl)
theorem dX15_isUnsure_4 : decode cX15_isUnsure 4 = .ok (.getfield 59, 3) := dk_180 0 59 (dk_at dksX15_isUnsure_0 4 rfl rfl)
theorem dX15_isUnsure_7 : decode cX15_isUnsure 7 = .ok (.if_icmp .ge 21, 3) := dk_162 0 21 (dk_at dksX15_isUnsure_0 7 rfl rfl)
theorem dX15_isUnsure_10 : decode cX15_isUnsure 10 = .ok (.aload_n 0, 1) := dk_42 (dk_at dksX15_isUnsure_0 10 rfl rfl)
theorem dX15_isUnsure_11 : decode cX15_isUnsure 11 = .ok (.getfield 27, 3) := dk_180 0 27 (dk_at dksX15_isUnsure_0 11 rfl rfl)
theorem dX15_isUnsure_14 : decode cX15_isUnsure 14 = .ok (.iload_n 2, 1) := dk_28 (dk_at dksX15_isUnsure_0 14 rfl rfl)
theorem dX15_isUnsure_15 : decode cX15_isUnsure 15 = .ok (.iaload, 1) := dk_46 (dk_at dksX15_isUnsure_0 15 rfl rfl)
theorem dX15_isUnsure_16 : decode cX15_isUnsure 16 = .ok (.iload_n 1, 1) := dk_27 (dk_at dksX15_isUnsure_0 16 rfl rfl)
theorem dX15_isUnsure_17 : decode cX15_isUnsure 17 = .ok (.if_icmp .ne 5, 3) := dk_160 0 5 (dk_at dksX15_isUnsure_0 17 rfl rfl)
theorem dX15_isUnsure_20 : decode cX15_isUnsure 20 = .ok (.iconst 1, 1) := dk_4 (dk_at dksX15_isUnsure_0 20 rfl rfl)
theorem dX15_isUnsure_21 : decode cX15_isUnsure 21 = .ok (.ireturn, 1) := dk_172 (dk_at dksX15_isUnsure_0 21 rfl rfl)
theorem dX15_isUnsure_22 : decode cX15_isUnsure 22 = .ok (.iinc 2 1, 3) := dk_132 2 1 (dk_at dksX15_isUnsure_1 0 rfl rfl)
theorem dX15_isUnsure_25 : decode cX15_isUnsure 25 = .ok (.goto (-23), 3) := dk_167 255 233 (dk_at dksX15_isUnsure_1 3 rfl rfl)
theorem dX15_isUnsure_28 : decode cX15_isUnsure 28 = .ok (.iconst 0, 1) := dk_3 (dk_at dksX15_isUnsure_1 6 rfl rfl)
theorem dX15_isUnsure_29 : decode cX15_isUnsure 29 = .ok (.ireturn, 1) := dk_172 (dk_at dksX15_isUnsure_1 7 rfl rfl)
abbrev cX15_isHeard : ByteArray := prog_16_method_5_code
def yX15_isHeard : MethodName := ⟨RX15, "isHeard", "(II)Z"⟩
def dkwX15_isHeard_1 : List UInt8 := [29, 46, 28, 160, 0, 5, 4, 172, 132, 3, 1, 167, 255, 223, 3, 172]
abbrev dktX15_isHeard_1 : List UInt8 := dkwX15_isHeard_1 ++ []
def dkwX15_isHeard_0 : List UInt8 := [3, 62, 29, 42, 180, 0, 62, 162, 0, 31, 42, 180, 0, 36, 29, 46, 27, 160, 0, 15, 42, 180, 0, 39]
abbrev dktX15_isHeard_0 : List UInt8 := dkwX15_isHeard_0 ++ dktX15_isHeard_1
theorem dksX15_isHeard_0 : cX15_isHeard.data.toList.drop 0 = dktX15_isHeard_0 := by decide +kernel
theorem dksX15_isHeard_1 : cX15_isHeard.data.toList.drop 24 = dktX15_isHeard_1 := dk_seg dksX15_isHeard_0 24 rfl rfl
theorem dX15_isHeard_0 : decode cX15_isHeard 0 = .ok (.iconst 0, 1) := dk_3 (dk_at dksX15_isHeard_0 0 rfl rfl)
theorem dX15_isHeard_1 : decode cX15_isHeard 1 = .ok (.istore_n 3, 1) := dk_62 (dk_at dksX15_isHeard_0 1 rfl rfl)
theorem dX15_isHeard_2 : decode cX15_isHeard 2 = .ok (.iload_n 3, 1) := dk_29 (dk_at dksX15_isHeard_0 2 rfl rfl)
theorem dX15_isHeard_3 : decode cX15_isHeard 3 = .ok (.aload_n 0, 1) := dk_42 (dk_at dksX15_isHeard_0 3 rfl rfl)
theorem dX15_isHeard_4 : decode cX15_isHeard 4 = .ok (.getfield 62, 3) := dk_180 0 62 (dk_at dksX15_isHeard_0 4 rfl rfl)
theorem dX15_isHeard_7 : decode cX15_isHeard 7 = .ok (.if_icmp .ge 31, 3) := dk_162 0 31 (dk_at dksX15_isHeard_0 7 rfl rfl)
theorem dX15_isHeard_10 : decode cX15_isHeard 10 = .ok (.aload_n 0, 1) := dk_42 (dk_at dksX15_isHeard_0 10 rfl rfl)
theorem dX15_isHeard_11 : decode cX15_isHeard 11 = .ok (.getfield 36, 3) := dk_180 0 36 (dk_at dksX15_isHeard_0 11 rfl rfl)
theorem dX15_isHeard_14 : decode cX15_isHeard 14 = .ok (.iload_n 3, 1) := dk_29 (dk_at dksX15_isHeard_0 14 rfl rfl)
theorem dX15_isHeard_15 : decode cX15_isHeard 15 = .ok (.iaload, 1) := dk_46 (dk_at dksX15_isHeard_0 15 rfl rfl)
theorem dX15_isHeard_16 : decode cX15_isHeard 16 = .ok (.iload_n 1, 1) := dk_27 (dk_at dksX15_isHeard_0 16 rfl rfl)
theorem dX15_isHeard_17 : decode cX15_isHeard 17 = .ok (.if_icmp .ne 15, 3) := dk_160 0 15 (dk_at dksX15_isHeard_0 17 rfl rfl)
theorem dX15_isHeard_20 : decode cX15_isHeard 20 = .ok (.aload_n 0, 1) := dk_42 (dk_at dksX15_isHeard_0 20 rfl rfl)
theorem dX15_isHeard_21 : decode cX15_isHeard 21 = .ok (.getfield 39, 3) := dk_180 0 39 (dk_at dksX15_isHeard_0 21 rfl rfl)
theorem dX15_isHeard_24 : decode cX15_isHeard 24 = .ok (.iload_n 3, 1) := dk_29 (dk_at dksX15_isHeard_1 0 rfl rfl)
theorem dX15_isHeard_25 : decode cX15_isHeard 25 = .ok (.iaload, 1) := dk_46 (dk_at dksX15_isHeard_1 1 rfl rfl)
theorem dX15_isHeard_26 : decode cX15_isHeard 26 = .ok (.iload_n 2, 1) := dk_28 (dk_at dksX15_isHeard_1 2 rfl rfl)
theorem dX15_isHeard_27 : decode cX15_isHeard 27 = .ok (.if_icmp .ne 5, 3) := dk_160 0 5 (dk_at dksX15_isHeard_1 3 rfl rfl)
theorem dX15_isHeard_30 : decode cX15_isHeard 30 = .ok (.iconst 1, 1) := dk_4 (dk_at dksX15_isHeard_1 6 rfl rfl)
theorem dX15_isHeard_31 : decode cX15_isHeard 31 = .ok (.ireturn, 1) := dk_172 (dk_at dksX15_isHeard_1 7 rfl rfl)
theorem dX15_isHeard_32 : decode cX15_isHeard 32 = .ok (.iinc 3 1, 3) := dk_132 3 1 (dk_at dksX15_isHeard_1 8 rfl rfl)
theorem dX15_isHeard_35 : decode cX15_isHeard 35 = .ok (.goto (-33), 3) := dk_167 255 223 (dk_at dksX15_isHeard_1 11 rfl rfl)
theorem dX15_isHeard_38 : decode cX15_isHeard 38 = .ok (.iconst 0, 1) := dk_3 (dk_at dksX15_isHeard_1 14 rfl rfl)
theorem dX15_isHeard_39 : decode cX15_isHeard 39 = .ok (.ireturn, 1) := dk_172 (dk_at dksX15_isHeard_1 15 rfl rfl)
theorem q140 : (Jvm.Cond.initialized "SeanceStreetModel$Town") ∈ lw_all := lw_g (lw_at lw_m1 23 rfl) rfl
theorem q1514 : (Jvm.Cond.instantiable "SeanceStreetModel$Town" (21 : Nat)) ∈ lw_all := lw_g (lw_at lw_m6 197 rfl) rfl
theorem q1516 : (Jvm.Cond.instanceMethod ({ cls := "SeanceStreetModel$Town", name := "<init>", desc := "()V" } : Jvm.MethodName)) ∈ lw_all := lw_g (lw_at lw_m6 199 rfl) rfl
theorem q1517 : (Jvm.Cond.code ({ cls := "SeanceStreetModel$Town", name := "<init>", desc := "()V" } : Jvm.MethodName) prog_16_method_1_code (1 : Nat) (Option.none : Option Jvm.ClassFile.FieldType)) ∈ lw_all := lw_g (lw_at lw_m6 200 rfl) rfl
theorem q1518 : (Jvm.Cond.methodLink "SeanceStreetModel$Town" (3 : Nat) ({ cls := "java/lang/Object", name := "<init>", desc := "()V" } : Jvm.MethodName)) ∈ lw_all := lw_g (lw_at lw_m6 201 rfl) rfl
theorem q1521 : (Jvm.Cond.fieldLink "SeanceStreetModel$Town" (56 : Nat) "SeanceStreetModel$Town" "people" "I") ∈ lw_all := lw_g (lw_at lw_m6 204 rfl) rfl
theorem q1524 : (Jvm.Cond.fieldLink "SeanceStreetModel$Town" (59 : Nat) "SeanceStreetModel$Town" "unsures" "I") ∈ lw_all := lw_g (lw_at lw_m6 207 rfl) rfl
theorem q1526 : (Jvm.Cond.fieldLink "SeanceStreetModel$Town" (62 : Nat) "SeanceStreetModel$Town" "heards" "I") ∈ lw_all := lw_g (lw_at lw_m6 209 rfl) rfl
theorem q1528 : (Jvm.Cond.fieldLink "SeanceStreetModel$Town" (52 : Nat) "SeanceStreetModel$Town" "names" "I") ∈ lw_all := lw_g (lw_at lw_m6 211 rfl) rfl
theorem q1530 : (Jvm.Cond.fieldLink "SeanceStreetModel$Town" (9 : Nat) "SeanceStreetModel$Town" "house" "[I") ∈ lw_all := lw_g (lw_at lw_m6 213 rfl) rfl
theorem q1532 : (Jvm.Cond.fieldLink "SeanceStreetModel$Town" (15 : Nat) "SeanceStreetModel$Town" "law" "[I") ∈ lw_all := lw_g (lw_at lw_m6 215 rfl) rfl
theorem q1534 : (Jvm.Cond.fieldLink "SeanceStreetModel$Town" (18 : Nat) "SeanceStreetModel$Town" "slip" "[I") ∈ lw_all := lw_g (lw_at lw_m6 217 rfl) rfl
theorem q1536 : (Jvm.Cond.fieldLink "SeanceStreetModel$Town" (21 : Nat) "SeanceStreetModel$Town" "of" "[I") ∈ lw_all := lw_g (lw_at lw_m6 219 rfl) rfl
theorem q1538 : (Jvm.Cond.fieldLink "SeanceStreetModel$Town" (24 : Nat) "SeanceStreetModel$Town" "mirror" "[I") ∈ lw_all := lw_g (lw_at lw_m6 221 rfl) rfl
theorem q1540 : (Jvm.Cond.fieldLink "SeanceStreetModel$Town" (27 : Nat) "SeanceStreetModel$Town" "unsure" "[I") ∈ lw_all := lw_g (lw_at lw_m6 223 rfl) rfl
theorem q1542 : (Jvm.Cond.fieldLink "SeanceStreetModel$Town" (30 : Nat) "SeanceStreetModel$Town" "other" "[I") ∈ lw_all := lw_g (lw_at lw_m6 225 rfl) rfl
theorem q1544 : (Jvm.Cond.fieldLink "SeanceStreetModel$Town" (33 : Nat) "SeanceStreetModel$Town" "heardBy" "[I") ∈ lw_all := lw_g (lw_at lw_m6 227 rfl) rfl
theorem q1546 : (Jvm.Cond.fieldLink "SeanceStreetModel$Town" (36 : Nat) "SeanceStreetModel$Town" "heard" "[I") ∈ lw_all := lw_g (lw_at lw_m6 229 rfl) rfl
theorem q1548 : (Jvm.Cond.fieldLink "SeanceStreetModel$Town" (39 : Nat) "SeanceStreetModel$Town" "heardIn" "[I") ∈ lw_all := lw_g (lw_at lw_m6 231 rfl) rfl
theorem q1550 : (Jvm.Cond.fieldLink "SeanceStreetModel$Town" (42 : Nat) "SeanceStreetModel$Town" "name" "[J") ∈ lw_all := lw_g (lw_at lw_m6 233 rfl) rfl
theorem q1552 : (Jvm.Cond.fieldLink "SeanceStreetModel$Town" (46 : Nat) "SeanceStreetModel$Town" "nameSort" "[I") ∈ lw_all := lw_g (lw_at lw_m6 235 rfl) rfl
theorem q1554 : (Jvm.Cond.fieldLink "SeanceStreetModel$Town" (49 : Nat) "SeanceStreetModel$Town" "numberOf" "[I") ∈ lw_all := lw_g (lw_at lw_m6 237 rfl) rfl
theorem q1556 : (Jvm.Cond.lays "SeanceStreetModel$Town" "SeanceStreetModel$Town" "houses" "I") ∈ lw_all := lw_g (lw_at lw_m6 239 rfl) rfl
theorem q1557 : (Jvm.Cond.soleField "SeanceStreetModel$Town" "houses") ∈ lw_all := lw_g (lw_at lw_m7 0 rfl) rfl
theorem q1558 : (Jvm.Cond.lays "SeanceStreetModel$Town" "SeanceStreetModel$Town" "lips" "I") ∈ lw_all := lw_g (lw_at lw_m7 1 rfl) rfl
theorem q1559 : (Jvm.Cond.soleField "SeanceStreetModel$Town" "lips") ∈ lw_all := lw_g (lw_at lw_m7 2 rfl) rfl
theorem q1560 : (Jvm.Cond.lays "SeanceStreetModel$Town" "SeanceStreetModel$Town" "people" "I") ∈ lw_all := lw_g (lw_at lw_m7 3 rfl) rfl
theorem q1561 : (Jvm.Cond.soleField "SeanceStreetModel$Town" "people") ∈ lw_all := lw_g (lw_at lw_m7 4 rfl) rfl
theorem q1562 : (Jvm.Cond.lays "SeanceStreetModel$Town" "SeanceStreetModel$Town" "dead" "I") ∈ lw_all := lw_g (lw_at lw_m7 5 rfl) rfl
theorem q1563 : (Jvm.Cond.soleField "SeanceStreetModel$Town" "dead") ∈ lw_all := lw_g (lw_at lw_m7 6 rfl) rfl
theorem q1564 : (Jvm.Cond.lays "SeanceStreetModel$Town" "SeanceStreetModel$Town" "mirrors" "I") ∈ lw_all := lw_g (lw_at lw_m7 7 rfl) rfl
theorem q1565 : (Jvm.Cond.soleField "SeanceStreetModel$Town" "mirrors") ∈ lw_all := lw_g (lw_at lw_m7 8 rfl) rfl
theorem q1566 : (Jvm.Cond.lays "SeanceStreetModel$Town" "SeanceStreetModel$Town" "unsures" "I") ∈ lw_all := lw_g (lw_at lw_m7 9 rfl) rfl
theorem q1567 : (Jvm.Cond.soleField "SeanceStreetModel$Town" "unsures") ∈ lw_all := lw_g (lw_at lw_m7 10 rfl) rfl
theorem q1568 : (Jvm.Cond.lays "SeanceStreetModel$Town" "SeanceStreetModel$Town" "heards" "I") ∈ lw_all := lw_g (lw_at lw_m7 11 rfl) rfl
theorem q1569 : (Jvm.Cond.soleField "SeanceStreetModel$Town" "heards") ∈ lw_all := lw_g (lw_at lw_m7 12 rfl) rfl
theorem q1570 : (Jvm.Cond.lays "SeanceStreetModel$Town" "SeanceStreetModel$Town" "names" "I") ∈ lw_all := lw_g (lw_at lw_m7 13 rfl) rfl
theorem q1571 : (Jvm.Cond.soleField "SeanceStreetModel$Town" "names") ∈ lw_all := lw_g (lw_at lw_m7 14 rfl) rfl
theorem q1572 : (Jvm.Cond.laysFinal "SeanceStreetModel$Town" "SeanceStreetModel$Town" "house" "[I") ∈ lw_all := lw_g (lw_at lw_m7 15 rfl) rfl
theorem q1573 : (Jvm.Cond.soleField "SeanceStreetModel$Town" "house") ∈ lw_all := lw_g (lw_at lw_m7 16 rfl) rfl
theorem q1574 : (Jvm.Cond.laysFinal "SeanceStreetModel$Town" "SeanceStreetModel$Town" "law" "[I") ∈ lw_all := lw_g (lw_at lw_m7 17 rfl) rfl
theorem q1575 : (Jvm.Cond.soleField "SeanceStreetModel$Town" "law") ∈ lw_all := lw_g (lw_at lw_m7 18 rfl) rfl
theorem q1576 : (Jvm.Cond.laysFinal "SeanceStreetModel$Town" "SeanceStreetModel$Town" "slip" "[I") ∈ lw_all := lw_g (lw_at lw_m7 19 rfl) rfl
theorem q1577 : (Jvm.Cond.soleField "SeanceStreetModel$Town" "slip") ∈ lw_all := lw_g (lw_at lw_m7 20 rfl) rfl
theorem q1578 : (Jvm.Cond.laysFinal "SeanceStreetModel$Town" "SeanceStreetModel$Town" "of" "[I") ∈ lw_all := lw_g (lw_at lw_m7 21 rfl) rfl
theorem q1579 : (Jvm.Cond.soleField "SeanceStreetModel$Town" "of") ∈ lw_all := lw_g (lw_at lw_m7 22 rfl) rfl
theorem q1580 : (Jvm.Cond.laysFinal "SeanceStreetModel$Town" "SeanceStreetModel$Town" "mirror" "[I") ∈ lw_all := lw_g (lw_at lw_m7 23 rfl) rfl
theorem q1581 : (Jvm.Cond.soleField "SeanceStreetModel$Town" "mirror") ∈ lw_all := lw_g (lw_at lw_m7 24 rfl) rfl
theorem q1582 : (Jvm.Cond.laysFinal "SeanceStreetModel$Town" "SeanceStreetModel$Town" "unsure" "[I") ∈ lw_all := lw_g (lw_at lw_m7 25 rfl) rfl
theorem q1583 : (Jvm.Cond.soleField "SeanceStreetModel$Town" "unsure") ∈ lw_all := lw_g (lw_at lw_m7 26 rfl) rfl
theorem q1584 : (Jvm.Cond.laysFinal "SeanceStreetModel$Town" "SeanceStreetModel$Town" "other" "[I") ∈ lw_all := lw_g (lw_at lw_m7 27 rfl) rfl
theorem q1585 : (Jvm.Cond.soleField "SeanceStreetModel$Town" "other") ∈ lw_all := lw_g (lw_at lw_m7 28 rfl) rfl
theorem q1586 : (Jvm.Cond.laysFinal "SeanceStreetModel$Town" "SeanceStreetModel$Town" "heardBy" "[I") ∈ lw_all := lw_g (lw_at lw_m7 29 rfl) rfl
theorem q1587 : (Jvm.Cond.soleField "SeanceStreetModel$Town" "heardBy") ∈ lw_all := lw_g (lw_at lw_m7 30 rfl) rfl
theorem q1588 : (Jvm.Cond.laysFinal "SeanceStreetModel$Town" "SeanceStreetModel$Town" "heard" "[I") ∈ lw_all := lw_g (lw_at lw_m7 31 rfl) rfl
theorem q1589 : (Jvm.Cond.soleField "SeanceStreetModel$Town" "heard") ∈ lw_all := lw_g (lw_at lw_m7 32 rfl) rfl
theorem q1590 : (Jvm.Cond.laysFinal "SeanceStreetModel$Town" "SeanceStreetModel$Town" "heardIn" "[I") ∈ lw_all := lw_g (lw_at lw_m7 33 rfl) rfl
theorem q1591 : (Jvm.Cond.soleField "SeanceStreetModel$Town" "heardIn") ∈ lw_all := lw_g (lw_at lw_m7 34 rfl) rfl
theorem q1592 : (Jvm.Cond.laysFinal "SeanceStreetModel$Town" "SeanceStreetModel$Town" "name" "[J") ∈ lw_all := lw_g (lw_at lw_m7 35 rfl) rfl
theorem q1593 : (Jvm.Cond.soleField "SeanceStreetModel$Town" "name") ∈ lw_all := lw_g (lw_at lw_m7 36 rfl) rfl
theorem q1594 : (Jvm.Cond.laysFinal "SeanceStreetModel$Town" "SeanceStreetModel$Town" "nameSort" "[I") ∈ lw_all := lw_g (lw_at lw_m7 37 rfl) rfl
theorem q1595 : (Jvm.Cond.soleField "SeanceStreetModel$Town" "nameSort") ∈ lw_all := lw_g (lw_at lw_m7 38 rfl) rfl
theorem q1596 : (Jvm.Cond.laysFinal "SeanceStreetModel$Town" "SeanceStreetModel$Town" "numberOf" "[I") ∈ lw_all := lw_g (lw_at lw_m7 39 rfl) rfl
theorem q1597 : (Jvm.Cond.soleField "SeanceStreetModel$Town" "numberOf") ∈ lw_all := lw_g (lw_at lw_m7 40 rfl) rfl
theorem q1598 : (Jvm.Cond.superclass "SeanceStreetModel$Town" "java/lang/Object") ∈ lw_all := lw_g (lw_at lw_m7 41 rfl) rfl
theorem q1709 : (Jvm.Cond.instanceMethod ({ cls := "SeanceStreetModel$Town", name := "find", desc := "(J)I" } : Jvm.MethodName)) ∈ lw_all := lw_g (lw_at lw_m7 152 rfl) rfl
theorem q1710 : (Jvm.Cond.selects "SeanceStreetModel$Town" ({ cls := "SeanceStreetModel$Town", name := "find", desc := "(J)I" } : Jvm.MethodName) ({ cls := "SeanceStreetModel$Town", name := "find", desc := "(J)I" } : Jvm.MethodName)) ∈ lw_all := lw_g (lw_at lw_m7 153 rfl) rfl
theorem q1711 : (Jvm.Cond.code ({ cls := "SeanceStreetModel$Town", name := "find", desc := "(J)I" } : Jvm.MethodName) prog_16_method_2_code (4 : Nat) (Option.some Jvm.ClassFile.FieldType.int)) ∈ lw_all := lw_g (lw_at lw_m7 154 rfl) rfl
theorem q1714 : (Jvm.Cond.instanceMethod ({ cls := "SeanceStreetModel$Town", name := "isTaken", desc := "(I)Z" } : Jvm.MethodName)) ∈ lw_all := lw_g (lw_at lw_m7 157 rfl) rfl
theorem q1715 : (Jvm.Cond.selects "SeanceStreetModel$Town" ({ cls := "SeanceStreetModel$Town", name := "isTaken", desc := "(I)Z" } : Jvm.MethodName) ({ cls := "SeanceStreetModel$Town", name := "isTaken", desc := "(I)Z" } : Jvm.MethodName)) ∈ lw_all := lw_g (lw_at lw_m7 158 rfl) rfl
theorem q1716 : (Jvm.Cond.code ({ cls := "SeanceStreetModel$Town", name := "isTaken", desc := "(I)Z" } : Jvm.MethodName) prog_16_method_3_code (3 : Nat) (Option.some Jvm.ClassFile.FieldType.boolean)) ∈ lw_all := lw_g (lw_at lw_m7 159 rfl) rfl
theorem q1748 : (Jvm.Cond.instanceMethod ({ cls := "SeanceStreetModel$Town", name := "isUnsure", desc := "(I)Z" } : Jvm.MethodName)) ∈ lw_all := lw_g (lw_at lw_m7 191 rfl) rfl
theorem q1749 : (Jvm.Cond.selects "SeanceStreetModel$Town" ({ cls := "SeanceStreetModel$Town", name := "isUnsure", desc := "(I)Z" } : Jvm.MethodName) ({ cls := "SeanceStreetModel$Town", name := "isUnsure", desc := "(I)Z" } : Jvm.MethodName)) ∈ lw_all := lw_g (lw_at lw_m7 192 rfl) rfl
theorem q1750 : (Jvm.Cond.code ({ cls := "SeanceStreetModel$Town", name := "isUnsure", desc := "(I)Z" } : Jvm.MethodName) prog_16_method_4_code (3 : Nat) (Option.some Jvm.ClassFile.FieldType.boolean)) ∈ lw_all := lw_g (lw_at lw_m7 193 rfl) rfl
theorem q1757 : (Jvm.Cond.instanceMethod ({ cls := "SeanceStreetModel$Town", name := "isHeard", desc := "(II)Z" } : Jvm.MethodName)) ∈ lw_all := lw_g (lw_at lw_m7 200 rfl) rfl
theorem q1758 : (Jvm.Cond.selects "SeanceStreetModel$Town" ({ cls := "SeanceStreetModel$Town", name := "isHeard", desc := "(II)Z" } : Jvm.MethodName) ({ cls := "SeanceStreetModel$Town", name := "isHeard", desc := "(II)Z" } : Jvm.MethodName)) ∈ lw_all := lw_g (lw_at lw_m7 201 rfl) rfl
theorem q1759 : (Jvm.Cond.code ({ cls := "SeanceStreetModel$Town", name := "isHeard", desc := "(II)Z" } : Jvm.MethodName) prog_16_method_5_code (4 : Nat) (Option.some Jvm.ClassFile.FieldType.boolean)) ∈ lw_all := lw_g (lw_at lw_m7 202 rfl) rfl
theorem q2218 : (Jvm.Cond.castable "SeanceStreetModel$Town" "java/lang/Object") ∈ lw_tbl := lw_at lw_m9 181 rfl
theorem in_X15 : ∀ w ∈ wsX150, w ∈ lw_all := lw_in wsX150 [1556, 1558, 1560, 1562, 1564, 1566, 1568, 1570, 1572, 1574, 1576, 1578, 1580, 1582, 1584, 1586, 1588, 1590, 1592, 1594, 1596] (by decide +kernel) (by decide +kernel)
/-! SeanceStreetModel -/
set_option maxRecDepth 100000
def RX6 : String := "SeanceStreetModel"
def TX6 : u_T := fun k => match k with
  | 0 => ("SeanceStreetModel", "thrown", "I", false)
  | 1 => ("SeanceStreetModel", "trouble", "I", false)
  | 2 => ("SeanceStreetModel", "where", "I", false)
  | 3 => ("SeanceStreetModel", "town", "LSeanceStreetModel$Town;", false)
  | 4 => ("SeanceStreetModel", "read", "LSeanceStreetModel$Town;", false)
  | 5 => ("SeanceStreetModel", "tape", "[B", true)
  | 6 => ("SeanceStreetModel", "taped", "I", false)
  | 7 => ("SeanceStreetModel", "size", "I", false)
  | 8 => ("SeanceStreetModel", "spot", "I", false)
  | 9 => ("SeanceStreetModel", "sort", "I", false)
  | 10 => ("SeanceStreetModel", "place", "I", false)
  | 11 => ("SeanceStreetModel", "number", "I", false)
  | 12 => ("SeanceStreetModel", "fault", "I", false)
  | 13 => ("SeanceStreetModel", "wrongAt", "I", false)
  | 14 => ("SeanceStreetModel", "word", "J", false)
  | 15 => ("SeanceStreetModel", "v", "[I", true)
  | 16 => ("SeanceStreetModel", "x", "[I", true)
  | 17 => ("SeanceStreetModel", "past", "[I", true)
  | 18 => ("SeanceStreetModel", "kept", "[I", true)
  | 19 => ("SeanceStreetModel", "acts", "I", false)
  | 20 => ("SeanceStreetModel", "images", "I", false)
  | 21 => ("SeanceStreetModel", "free", "[I", true)
  | 22 => ("SeanceStreetModel", "seat", "[I", true)
  | 23 => ("SeanceStreetModel", "seatBest", "I", false)
  | 24 => ("SeanceStreetModel", "cost", "[I", true)
  | 25 => ("SeanceStreetModel", "hearer", "[I", true)
  | 26 => ("SeanceStreetModel", "fitsNow", "I", false)
  | 27 => ("SeanceStreetModel", "someNow", "I", false)
  | 28 => ("SeanceStreetModel", "everyNow", "I", false)
  | 29 => ("SeanceStreetModel", "otherIn", "[I", true)
  | 30 => ("SeanceStreetModel", "askLeft", "I", false)
  | 31 => ("SeanceStreetModel", "part", "[J", true)
  | _ => ("SeanceStreetModel", "seedThen", "I", false)
def tyX6 : Nat → FieldType := fun k => match k with
  | 0 => .int
  | 1 => .int
  | 2 => .int
  | 3 => .object "SeanceStreetModel$Town"
  | 4 => .object "SeanceStreetModel$Town"
  | 5 => .array .byte
  | 6 => .int
  | 7 => .int
  | 8 => .int
  | 9 => .int
  | 10 => .int
  | 11 => .int
  | 12 => .int
  | 13 => .int
  | 14 => .long
  | 15 => .array .int
  | 16 => .array .int
  | 17 => .array .int
  | 18 => .array .int
  | 19 => .int
  | 20 => .int
  | 21 => .array .int
  | 22 => .array .int
  | 23 => .int
  | 24 => .array .int
  | 25 => .array .int
  | 26 => .int
  | 27 => .int
  | 28 => .int
  | 29 => .array .int
  | 30 => .int
  | 31 => .array .long
  | _ => .int
abbrev wsX60 : List Cond := u_ws RX6 TX6 33
set_option maxRecDepth 100000 in
theorem nmX6 : ∀ a, a < 33 → ∀ b, b < 33 → a ≠ b → (TX6 a).2.1 ≠ (TX6 b).2.1 := by decide +kernel
set_option maxRecDepth 100000 in
theorem tyX6_ok : ∀ k, k < 33 → parseFieldDescriptor (TX6 k).2.2.1 = some (tyX6 k) := by decide +kernel
abbrev cX6_init : ByteArray := prog_15_method_1_code
def yX6_init : MethodName := ⟨RX6, "<init>", "()V"⟩
def dkwX6_init_4 : List UInt8 := [16, 7, 188, 11, 181, 0, 45, 177]
abbrev dktX6_init_4 : List UInt8 := dkwX6_init_4 ++ []
def dkwX6_init_3 : List UInt8 := [17, 19, 239, 188, 10, 181, 0, 36, 42, 16, 6, 188, 10, 181, 0, 39, 42, 7, 188, 10, 181, 0, 42, 42]
abbrev dktX6_init_3 : List UInt8 := dkwX6_init_3 ++ dktX6_init_4
def dkwX6_init_2 : List UInt8 := [188, 10, 181, 0, 27, 42, 16, 6, 188, 10, 181, 0, 30, 42, 16, 6, 188, 10, 181, 0, 33, 42]
abbrev dktX6_init_2 : List UInt8 := dkwX6_init_2 ++ dktX6_init_3
def dkwX6_init_1 : List UInt8 := [181, 0, 17, 42, 16, 19, 188, 10, 181, 0, 21, 42, 17, 1, 48, 188, 10, 181, 0, 24, 42, 16, 57]
abbrev dktX6_init_1 : List UInt8 := dkwX6_init_1 ++ dktX6_init_2
def dkwX6_init_0 : List UInt8 := [42, 183, 0, 3, 42, 2, 181, 0, 9, 42, 17, 3, 32, 188, 8, 181, 0, 13, 42, 16, 19, 188, 10]
abbrev dktX6_init_0 : List UInt8 := dkwX6_init_0 ++ dktX6_init_1
theorem dksX6_init_0 : cX6_init.data.toList.drop 0 = dktX6_init_0 := by decide +kernel
theorem dksX6_init_1 : cX6_init.data.toList.drop 23 = dktX6_init_1 := dk_seg dksX6_init_0 23 rfl rfl
theorem dksX6_init_2 : cX6_init.data.toList.drop 46 = dktX6_init_2 := dk_seg dksX6_init_1 23 rfl rfl
theorem dksX6_init_3 : cX6_init.data.toList.drop 68 = dktX6_init_3 := dk_seg dksX6_init_2 22 rfl rfl
theorem dksX6_init_4 : cX6_init.data.toList.drop 92 = dktX6_init_4 := dk_seg dksX6_init_3 24 rfl rfl
theorem dX6_init_0 : decode cX6_init 0 = .ok (.aload_n 0, 1) := dk_42 (dk_at dksX6_init_0 0 rfl rfl)
theorem dX6_init_1 : decode cX6_init 1 = .ok (.invokespecial 3, 3) := dk_183 0 3 (dk_at dksX6_init_0 1 rfl rfl)
theorem dX6_init_4 : decode cX6_init 4 = .ok (.aload_n 0, 1) := dk_42 (dk_at dksX6_init_0 4 rfl rfl)
theorem dX6_init_5 : decode cX6_init 5 = .ok (.iconst (-1), 1) := dk_2 (dk_at dksX6_init_0 5 rfl rfl)
theorem dX6_init_6 : decode cX6_init 6 = .ok (.putfield 9, 3) := dk_181 0 9 (dk_at dksX6_init_0 6 rfl rfl)
theorem dX6_init_9 : decode cX6_init 9 = .ok (.aload_n 0, 1) := dk_42 (dk_at dksX6_init_0 9 rfl rfl)
theorem dX6_init_10 : decode cX6_init 10 = .ok (.sipush 800, 3) := dk_17 3 32 (dk_at dksX6_init_0 10 rfl rfl)
theorem dX6_init_13 : decode cX6_init 13 = .ok (.newarray .byte, 2) := dk_188_8 (dk_at dksX6_init_0 13 rfl rfl)
theorem dX6_init_15 : decode cX6_init 15 = .ok (.putfield 13, 3) := dk_181 0 13 (dk_at dksX6_init_0 15 rfl rfl)
theorem dX6_init_18 : decode cX6_init 18 = .ok (.aload_n 0, 1) := dk_42 (dk_at dksX6_init_0 18 rfl rfl)
theorem dX6_init_19 : decode cX6_init 19 = .ok (.bipush 19, 2) := dk_16 19 (dk_at dksX6_init_0 19 rfl rfl)
theorem dX6_init_21 : decode cX6_init 21 = .ok (.newarray .int, 2) := dk_188_10 (dk_at dksX6_init_0 21 rfl rfl)
theorem dX6_init_23 : decode cX6_init 23 = .ok (.putfield 17, 3) := dk_181 0 17 (dk_at dksX6_init_1 0 rfl rfl)
theorem dX6_init_26 : decode cX6_init 26 = .ok (.aload_n 0, 1) := dk_42 (dk_at dksX6_init_1 3 rfl rfl)
theorem dX6_init_27 : decode cX6_init 27 = .ok (.bipush 19, 2) := dk_16 19 (dk_at dksX6_init_1 4 rfl rfl)
theorem dX6_init_29 : decode cX6_init 29 = .ok (.newarray .int, 2) := dk_188_10 (dk_at dksX6_init_1 6 rfl rfl)
theorem dX6_init_31 : decode cX6_init 31 = .ok (.putfield 21, 3) := dk_181 0 21 (dk_at dksX6_init_1 8 rfl rfl)
theorem dX6_init_34 : decode cX6_init 34 = .ok (.aload_n 0, 1) := dk_42 (dk_at dksX6_init_1 11 rfl rfl)
theorem dX6_init_35 : decode cX6_init 35 = .ok (.sipush 304, 3) := dk_17 1 48 (dk_at dksX6_init_1 12 rfl rfl)
theorem dX6_init_38 : decode cX6_init 38 = .ok (.newarray .int, 2) := dk_188_10 (dk_at dksX6_init_1 15 rfl rfl)
theorem dX6_init_40 : decode cX6_init 40 = .ok (.putfield 24, 3) := dk_181 0 24 (dk_at dksX6_init_1 17 rfl rfl)
theorem dX6_init_43 : decode cX6_init 43 = .ok (.aload_n 0, 1) := dk_42 (dk_at dksX6_init_1 20 rfl rfl)
theorem dX6_init_44 : decode cX6_init 44 = .ok (.bipush 57, 2) := dk_16 57 (dk_at dksX6_init_1 21 rfl rfl)
theorem dX6_init_46 : decode cX6_init 46 = .ok (.newarray .int, 2) := dk_188_10 (dk_at dksX6_init_2 0 rfl rfl)
theorem dX6_init_48 : decode cX6_init 48 = .ok (.putfield 27, 3) := dk_181 0 27 (dk_at dksX6_init_2 2 rfl rfl)
theorem dX6_init_51 : decode cX6_init 51 = .ok (.aload_n 0, 1) := dk_42 (dk_at dksX6_init_2 5 rfl rfl)
theorem dX6_init_52 : decode cX6_init 52 = .ok (.bipush 6, 2) := dk_16 6 (dk_at dksX6_init_2 6 rfl rfl)
theorem dX6_init_54 : decode cX6_init 54 = .ok (.newarray .int, 2) := dk_188_10 (dk_at dksX6_init_2 8 rfl rfl)
theorem dX6_init_56 : decode cX6_init 56 = .ok (.putfield 30, 3) := dk_181 0 30 (dk_at dksX6_init_2 10 rfl rfl)
theorem dX6_init_59 : decode cX6_init 59 = .ok (.aload_n 0, 1) := dk_42 (dk_at dksX6_init_2 13 rfl rfl)
theorem dX6_init_60 : decode cX6_init 60 = .ok (.bipush 6, 2) := dk_16 6 (dk_at dksX6_init_2 14 rfl rfl)
theorem dX6_init_62 : decode cX6_init 62 = .ok (.newarray .int, 2) := dk_188_10 (dk_at dksX6_init_2 16 rfl rfl)
theorem dX6_init_64 : decode cX6_init 64 = .ok (.putfield 33, 3) := dk_181 0 33 (dk_at dksX6_init_2 18 rfl rfl)
theorem dX6_init_67 : decode cX6_init 67 = .ok (.aload_n 0, 1) := dk_42 (dk_at dksX6_init_2 21 rfl rfl)
theorem dX6_init_68 : decode cX6_init 68 = .ok (.sipush 5103, 3) := dk_17 19 239 (dk_at dksX6_init_3 0 rfl rfl)
theorem dX6_init_71 : decode cX6_init 71 = .ok (.newarray .int, 2) := dk_188_10 (dk_at dksX6_init_3 3 rfl rfl)
theorem dX6_init_73 : decode cX6_init 73 = .ok (.putfield 36, 3) := dk_181 0 36 (dk_at dksX6_init_3 5 rfl rfl)
theorem dX6_init_76 : decode cX6_init 76 = .ok (.aload_n 0, 1) := dk_42 (dk_at dksX6_init_3 8 rfl rfl)
theorem dX6_init_77 : decode cX6_init 77 = .ok (.bipush 6, 2) := dk_16 6 (dk_at dksX6_init_3 9 rfl rfl)
theorem dX6_init_79 : decode cX6_init 79 = .ok (.newarray .int, 2) := dk_188_10 (dk_at dksX6_init_3 11 rfl rfl)
theorem dX6_init_81 : decode cX6_init 81 = .ok (.putfield 39, 3) := dk_181 0 39 (dk_at dksX6_init_3 13 rfl rfl)
theorem dX6_init_84 : decode cX6_init 84 = .ok (.aload_n 0, 1) := dk_42 (dk_at dksX6_init_3 16 rfl rfl)
theorem dX6_init_85 : decode cX6_init 85 = .ok (.iconst 4, 1) := dk_7 (dk_at dksX6_init_3 17 rfl rfl)
theorem dX6_init_86 : decode cX6_init 86 = .ok (.newarray .int, 2) := dk_188_10 (dk_at dksX6_init_3 18 rfl rfl)
theorem dX6_init_88 : decode cX6_init 88 = .ok (.putfield 42, 3) := dk_181 0 42 (dk_at dksX6_init_3 20 rfl rfl)
theorem dX6_init_91 : decode cX6_init 91 = .ok (.aload_n 0, 1) := dk_42 (dk_at dksX6_init_3 23 rfl rfl)
theorem dX6_init_92 : decode cX6_init 92 = .ok (.bipush 7, 2) := dk_16 7 (dk_at dksX6_init_4 0 rfl rfl)
theorem dX6_init_94 : decode cX6_init 94 = .ok (.newarray .long, 2) := dk_188_11 (dk_at dksX6_init_4 2 rfl rfl)
theorem dX6_init_96 : decode cX6_init 96 = .ok (.putfield 45, 3) := dk_181 0 45 (dk_at dksX6_init_4 4 rfl rfl)
theorem dX6_init_99 : decode cX6_init 99 = .ok (.return_, 1) := dk_177 (dk_at dksX6_init_4 7 rfl rfl)
abbrev cX6_thrown : ByteArray := prog_15_method_2_code
def yX6_thrown : MethodName := ⟨RX6, "thrown", "()I"⟩
theorem dX6_thrown_0 : decode cX6_thrown 0 = .ok (.aload_n 0, 1) := by decide +kernel
theorem dX6_thrown_1 : decode cX6_thrown 1 = .ok (.getfield 49, 3) := by decide +kernel
theorem dX6_thrown_4 : decode cX6_thrown 4 = .ok (.ireturn, 1) := by decide +kernel
abbrev cX6_feed : ByteArray := prog_15_method_39_code
def yX6_feed : MethodName := ⟨RX6, "feed", "(IIIII)I"⟩
def dkwX6_feed_5 : List UInt8 := [180, 1, 40, 172]
abbrev dktX6_feed_5 : List UInt8 := dkwX6_feed_5 ++ []
def dkwX6_feed_4 : List UInt8 := [112, 104, 100, 122, 145, 84, 42, 89, 180, 1, 40, 4, 96, 181, 1, 40, 132, 6, 1, 167, 255, 165, 42]
abbrev dktX6_feed_4 : List UInt8 := dkwX6_feed_4 ++ dktX6_feed_5
def dkwX6_feed_3 : List UInt8 := [167, 0, 5, 21, 5, 54, 7, 42, 180, 0, 13, 42, 180, 1, 40, 21, 7, 16, 24, 16, 8, 21, 6, 7]
abbrev dktX6_feed_3 : List UInt8 := dkwX6_feed_3 ++ dktX6_feed_4
def dkwX6_feed_2 : List UInt8 := [28, 167, 0, 28, 21, 6, 16, 12, 162, 0, 7, 29, 167, 0, 17, 21, 6, 16, 16, 162, 0, 8, 21, 4]
abbrev dktX6_feed_2 : List UInt8 := dkwX6_feed_2 ++ dktX6_feed_3
def dkwX6_feed_1 : List UInt8 := [21, 6, 16, 20, 162, 0, 90, 21, 6, 7, 162, 0, 7, 27, 167, 0, 39, 21, 6, 16, 8, 162, 0, 7]
abbrev dktX6_feed_1 : List UInt8 := dkwX6_feed_1 ++ dktX6_feed_2
def dkwX6_feed_0 : List UInt8 := [42, 3, 181, 0, 49, 42, 180, 1, 40, 16, 20, 96, 17, 3, 32, 164, 0, 5, 2, 172, 3, 54, 6]
abbrev dktX6_feed_0 : List UInt8 := dkwX6_feed_0 ++ dktX6_feed_1
theorem dksX6_feed_0 : cX6_feed.data.toList.drop 0 = dktX6_feed_0 := by decide +kernel
theorem dksX6_feed_1 : cX6_feed.data.toList.drop 23 = dktX6_feed_1 := dk_seg dksX6_feed_0 23 rfl rfl
theorem dksX6_feed_2 : cX6_feed.data.toList.drop 47 = dktX6_feed_2 := dk_seg dksX6_feed_1 24 rfl rfl
theorem dksX6_feed_3 : cX6_feed.data.toList.drop 71 = dktX6_feed_3 := dk_seg dksX6_feed_2 24 rfl rfl
theorem dksX6_feed_4 : cX6_feed.data.toList.drop 95 = dktX6_feed_4 := dk_seg dksX6_feed_3 24 rfl rfl
theorem dksX6_feed_5 : cX6_feed.data.toList.drop 118 = dktX6_feed_5 := dk_seg dksX6_feed_4 23 rfl rfl
theorem dX6_feed_0 : decode cX6_feed 0 = .ok (.aload_n 0, 1) := dk_42 (dk_at dksX6_feed_0 0 rfl rfl)
theorem dX6_feed_1 : decode cX6_feed 1 = .ok (.iconst 0, 1) := dk_3 (dk_at dksX6_feed_0 1 rfl rfl)
theorem dX6_feed_2 : decode cX6_feed 2 = .ok (.putfield 49, 3) := dk_181 0 49 (dk_at dksX6_feed_0 2 rfl rfl)
theorem dX6_feed_5 : decode cX6_feed 5 = .ok (.aload_n 0, 1) := dk_42 (dk_at dksX6_feed_0 5 rfl rfl)
theorem dX6_feed_6 : decode cX6_feed 6 = .ok (.getfield 296, 3) := dk_180 1 40 (dk_at dksX6_feed_0 6 rfl rfl)
theorem dX6_feed_9 : decode cX6_feed 9 = .ok (.bipush 20, 2) := dk_16 20 (dk_at dksX6_feed_0 9 rfl rfl)
theorem dX6_feed_11 : decode cX6_feed 11 = .ok (.iadd, 1) := dk_96 (dk_at dksX6_feed_0 11 rfl rfl)
theorem dX6_feed_12 : decode cX6_feed 12 = .ok (.sipush 800, 3) := dk_17 3 32 (dk_at dksX6_feed_0 12 rfl rfl)
theorem dX6_feed_15 : decode cX6_feed 15 = .ok (.if_icmp .le 5, 3) := dk_164 0 5 (dk_at dksX6_feed_0 15 rfl rfl)
theorem dX6_feed_18 : decode cX6_feed 18 = .ok (.iconst (-1), 1) := dk_2 (dk_at dksX6_feed_0 18 rfl rfl)
theorem dX6_feed_19 : decode cX6_feed 19 = .ok (.ireturn, 1) := dk_172 (dk_at dksX6_feed_0 19 rfl rfl)
theorem dX6_feed_20 : decode cX6_feed 20 = .ok (.iconst 0, 1) := dk_3 (dk_at dksX6_feed_0 20 rfl rfl)
theorem dX6_feed_21 : decode cX6_feed 21 = .ok (.istore 6, 2) := dk_54 6 (dk_at dksX6_feed_0 21 rfl rfl)
theorem dX6_feed_23 : decode cX6_feed 23 = .ok (.iload 6, 2) := dk_21 6 (dk_at dksX6_feed_1 0 rfl rfl)
theorem dX6_feed_25 : decode cX6_feed 25 = .ok (.bipush 20, 2) := dk_16 20 (dk_at dksX6_feed_1 2 rfl rfl)
theorem dX6_feed_27 : decode cX6_feed 27 = .ok (.if_icmp .ge 90, 3) := dk_162 0 90 (dk_at dksX6_feed_1 4 rfl rfl)
theorem dX6_feed_30 : decode cX6_feed 30 = .ok (.iload 6, 2) := dk_21 6 (dk_at dksX6_feed_1 7 rfl rfl)
theorem dX6_feed_32 : decode cX6_feed 32 = .ok (.iconst 4, 1) := dk_7 (dk_at dksX6_feed_1 9 rfl rfl)
theorem dX6_feed_33 : decode cX6_feed 33 = .ok (.if_icmp .ge 7, 3) := dk_162 0 7 (dk_at dksX6_feed_1 10 rfl rfl)
theorem dX6_feed_36 : decode cX6_feed 36 = .ok (.iload_n 1, 1) := dk_27 (dk_at dksX6_feed_1 13 rfl rfl)
theorem dX6_feed_37 : decode cX6_feed 37 = .ok (.goto 39, 3) := dk_167 0 39 (dk_at dksX6_feed_1 14 rfl rfl)
theorem dX6_feed_40 : decode cX6_feed 40 = .ok (.iload 6, 2) := dk_21 6 (dk_at dksX6_feed_1 17 rfl rfl)
theorem dX6_feed_42 : decode cX6_feed 42 = .ok (.bipush 8, 2) := dk_16 8 (dk_at dksX6_feed_1 19 rfl rfl)
theorem dX6_feed_44 : decode cX6_feed 44 = .ok (.if_icmp .ge 7, 3) := dk_162 0 7 (dk_at dksX6_feed_1 21 rfl rfl)
theorem dX6_feed_47 : decode cX6_feed 47 = .ok (.iload_n 2, 1) := dk_28 (dk_at dksX6_feed_2 0 rfl rfl)
theorem dX6_feed_48 : decode cX6_feed 48 = .ok (.goto 28, 3) := dk_167 0 28 (dk_at dksX6_feed_2 1 rfl rfl)
theorem dX6_feed_51 : decode cX6_feed 51 = .ok (.iload 6, 2) := dk_21 6 (dk_at dksX6_feed_2 4 rfl rfl)
theorem dX6_feed_53 : decode cX6_feed 53 = .ok (.bipush 12, 2) := dk_16 12 (dk_at dksX6_feed_2 6 rfl rfl)
theorem dX6_feed_55 : decode cX6_feed 55 = .ok (.if_icmp .ge 7, 3) := dk_162 0 7 (dk_at dksX6_feed_2 8 rfl rfl)
theorem dX6_feed_58 : decode cX6_feed 58 = .ok (.iload_n 3, 1) := dk_29 (dk_at dksX6_feed_2 11 rfl rfl)
theorem dX6_feed_59 : decode cX6_feed 59 = .ok (.goto 17, 3) := dk_167 0 17 (dk_at dksX6_feed_2 12 rfl rfl)
theorem dX6_feed_62 : decode cX6_feed 62 = .ok (.iload 6, 2) := dk_21 6 (dk_at dksX6_feed_2 15 rfl rfl)
theorem dX6_feed_64 : decode cX6_feed 64 = .ok (.bipush 16, 2) := dk_16 16 (dk_at dksX6_feed_2 17 rfl rfl)
theorem dX6_feed_66 : decode cX6_feed 66 = .ok (.if_icmp .ge 8, 3) := dk_162 0 8 (dk_at dksX6_feed_2 19 rfl rfl)
theorem dX6_feed_69 : decode cX6_feed 69 = .ok (.iload 4, 2) := dk_21 4 (dk_at dksX6_feed_2 22 rfl rfl)
theorem dX6_feed_71 : decode cX6_feed 71 = .ok (.goto 5, 3) := dk_167 0 5 (dk_at dksX6_feed_3 0 rfl rfl)
theorem dX6_feed_74 : decode cX6_feed 74 = .ok (.iload 5, 2) := dk_21 5 (dk_at dksX6_feed_3 3 rfl rfl)
theorem dX6_feed_76 : decode cX6_feed 76 = .ok (.istore 7, 2) := dk_54 7 (dk_at dksX6_feed_3 5 rfl rfl)
theorem dX6_feed_78 : decode cX6_feed 78 = .ok (.aload_n 0, 1) := dk_42 (dk_at dksX6_feed_3 7 rfl rfl)
theorem dX6_feed_79 : decode cX6_feed 79 = .ok (.getfield 13, 3) := dk_180 0 13 (dk_at dksX6_feed_3 8 rfl rfl)
theorem dX6_feed_82 : decode cX6_feed 82 = .ok (.aload_n 0, 1) := dk_42 (dk_at dksX6_feed_3 11 rfl rfl)
theorem dX6_feed_83 : decode cX6_feed 83 = .ok (.getfield 296, 3) := dk_180 1 40 (dk_at dksX6_feed_3 12 rfl rfl)
theorem dX6_feed_86 : decode cX6_feed 86 = .ok (.iload 7, 2) := dk_21 7 (dk_at dksX6_feed_3 15 rfl rfl)
theorem dX6_feed_88 : decode cX6_feed 88 = .ok (.bipush 24, 2) := dk_16 24 (dk_at dksX6_feed_3 17 rfl rfl)
theorem dX6_feed_90 : decode cX6_feed 90 = .ok (.bipush 8, 2) := dk_16 8 (dk_at dksX6_feed_3 19 rfl rfl)
theorem dX6_feed_92 : decode cX6_feed 92 = .ok (.iload 6, 2) := dk_21 6 (dk_at dksX6_feed_3 21 rfl rfl)
theorem dX6_feed_94 : decode cX6_feed 94 = .ok (.iconst 4, 1) := dk_7 (dk_at dksX6_feed_3 23 rfl rfl)
theorem dX6_feed_95 : decode cX6_feed 95 = .ok (.irem, 1) := dk_112 (dk_at dksX6_feed_4 0 rfl rfl)
theorem dX6_feed_96 : decode cX6_feed 96 = .ok (.imul, 1) := dk_104 (dk_at dksX6_feed_4 1 rfl rfl)
theorem dX6_feed_97 : decode cX6_feed 97 = .ok (.isub, 1) := dk_100 (dk_at dksX6_feed_4 2 rfl rfl)
theorem dX6_feed_98 : decode cX6_feed 98 = .ok (.ishr, 1) := dk_122 (dk_at dksX6_feed_4 3 rfl rfl)
theorem dX6_feed_99 : decode cX6_feed 99 = .ok (.i2b, 1) := dk_145 (dk_at dksX6_feed_4 4 rfl rfl)
theorem dX6_feed_100 : decode cX6_feed 100 = .ok (.bastore, 1) := dk_84 (dk_at dksX6_feed_4 5 rfl rfl)
theorem dX6_feed_101 : decode cX6_feed 101 = .ok (.aload_n 0, 1) := dk_42 (dk_at dksX6_feed_4 6 rfl rfl)
theorem dX6_feed_102 : decode cX6_feed 102 = .ok (.dup, 1) := dk_89 (dk_at dksX6_feed_4 7 rfl rfl)
theorem dX6_feed_103 : decode cX6_feed 103 = .ok (.getfield 296, 3) := dk_180 1 40 (dk_at dksX6_feed_4 8 rfl rfl)
theorem dX6_feed_106 : decode cX6_feed 106 = .ok (.iconst 1, 1) := dk_4 (dk_at dksX6_feed_4 11 rfl rfl)
theorem dX6_feed_107 : decode cX6_feed 107 = .ok (.iadd, 1) := dk_96 (dk_at dksX6_feed_4 12 rfl rfl)
theorem dX6_feed_108 : decode cX6_feed 108 = .ok (.putfield 296, 3) := dk_181 1 40 (dk_at dksX6_feed_4 13 rfl rfl)
theorem dX6_feed_111 : decode cX6_feed 111 = .ok (.iinc 6 1, 3) := dk_132 6 1 (dk_at dksX6_feed_4 16 rfl rfl)
theorem dX6_feed_114 : decode cX6_feed 114 = .ok (.goto (-91), 3) := dk_167 255 165 (dk_at dksX6_feed_4 19 rfl rfl)
theorem dX6_feed_117 : decode cX6_feed 117 = .ok (.aload_n 0, 1) := dk_42 (dk_at dksX6_feed_4 22 rfl rfl)
theorem dX6_feed_118 : decode cX6_feed 118 = .ok (.getfield 296, 3) := dk_180 1 40 (dk_at dksX6_feed_5 0 rfl rfl)
theorem dX6_feed_121 : decode cX6_feed 121 = .ok (.ireturn, 1) := dk_172 (dk_at dksX6_feed_5 3 rfl rfl)
abbrev cX6_town : ByteArray := prog_15_method_40_code
def yX6_town : MethodName := ⟨RX6, "town", "(I)I"⟩
def dkwX6_town_6 : List UInt8 := [180, 1, 47, 180, 0, 193, 182, 0, 59, 172]
abbrev dktX6_town_6 : List UInt8 := dkwX6_town_6 ++ []
def dkwX6_town_5 : List UInt8 := [180, 0, 21, 28, 46, 79, 132, 2, 1, 167, 255, 235, 42, 3, 181, 1, 52, 42, 3, 181, 1, 55, 42, 42]
abbrev dktX6_town_5 : List UInt8 := dkwX6_town_5 ++ dktX6_town_6
def dkwX6_town_4 : List UInt8 := [181, 1, 47, 42, 3, 182, 1, 49, 3, 61, 28, 16, 19, 162, 0, 21, 42, 180, 0, 17, 28, 42]
abbrev dktX6_town_4 : List UInt8 := dkwX6_town_4 ++ dktX6_town_5
def dkwX6_town_3 : List UInt8 := [158, 0, 18, 42, 7, 181, 0, 52, 42, 42, 180, 0, 110, 181, 0, 9, 2, 172, 42, 42, 180, 0, 155]
abbrev dktX6_town_3 : List UInt8 := dkwX6_town_3 ++ dktX6_town_4
def dkwX6_town_2 : List UInt8 := [183, 1, 43, 181, 0, 155, 42, 3, 181, 0, 81, 42, 182, 0, 117, 42, 182, 1, 44, 42, 180, 0, 107]
abbrev dktX6_town_2 : List UInt8 := dkwX6_town_2 ++ dktX6_town_3
def dkwX6_town_1 : List UInt8 := [27, 181, 0, 66, 42, 3, 181, 1, 40, 42, 3, 181, 0, 84, 42, 3, 181, 0, 107, 42, 187, 0, 160, 89]
abbrev dktX6_town_1 : List UInt8 := dkwX6_town_1 ++ dktX6_town_2
def dkwX6_town_0 : List UInt8 := [42, 3, 181, 0, 49, 27, 155, 0, 11, 27, 42, 180, 1, 40, 164, 0, 9, 42, 5, 182, 0, 55, 172, 42]
abbrev dktX6_town_0 : List UInt8 := dkwX6_town_0 ++ dktX6_town_1
theorem dksX6_town_0 : cX6_town.data.toList.drop 0 = dktX6_town_0 := by decide +kernel
theorem dksX6_town_1 : cX6_town.data.toList.drop 24 = dktX6_town_1 := dk_seg dksX6_town_0 24 rfl rfl
theorem dksX6_town_2 : cX6_town.data.toList.drop 48 = dktX6_town_2 := dk_seg dksX6_town_1 24 rfl rfl
theorem dksX6_town_3 : cX6_town.data.toList.drop 71 = dktX6_town_3 := dk_seg dksX6_town_2 23 rfl rfl
theorem dksX6_town_4 : cX6_town.data.toList.drop 94 = dktX6_town_4 := dk_seg dksX6_town_3 23 rfl rfl
theorem dksX6_town_5 : cX6_town.data.toList.drop 116 = dktX6_town_5 := dk_seg dksX6_town_4 22 rfl rfl
theorem dksX6_town_6 : cX6_town.data.toList.drop 140 = dktX6_town_6 := dk_seg dksX6_town_5 24 rfl rfl
theorem dX6_town_0 : decode cX6_town 0 = .ok (.aload_n 0, 1) := dk_42 (dk_at dksX6_town_0 0 rfl rfl)
theorem dX6_town_1 : decode cX6_town 1 = .ok (.iconst 0, 1) := dk_3 (dk_at dksX6_town_0 1 rfl rfl)
theorem dX6_town_2 : decode cX6_town 2 = .ok (.putfield 49, 3) := dk_181 0 49 (dk_at dksX6_town_0 2 rfl rfl)
theorem dX6_town_5 : decode cX6_town 5 = .ok (.iload_n 1, 1) := dk_27 (dk_at dksX6_town_0 5 rfl rfl)
theorem dX6_town_6 : decode cX6_town 6 = .ok (.ifCond .lt 11, 3) := dk_155 0 11 (dk_at dksX6_town_0 6 rfl rfl)
theorem dX6_town_9 : decode cX6_town 9 = .ok (.iload_n 1, 1) := dk_27 (dk_at dksX6_town_0 9 rfl rfl)
theorem dX6_town_10 : decode cX6_town 10 = .ok (.aload_n 0, 1) := dk_42 (dk_at dksX6_town_0 10 rfl rfl)
theorem dX6_town_11 : decode cX6_town 11 = .ok (.getfield 296, 3) := dk_180 1 40 (dk_at dksX6_town_0 11 rfl rfl)
theorem dX6_town_14 : decode cX6_town 14 = .ok (.if_icmp .le 9, 3) := dk_164 0 9 (dk_at dksX6_town_0 14 rfl rfl)
theorem dX6_town_17 : decode cX6_town 17 = .ok (.aload_n 0, 1) := dk_42 (dk_at dksX6_town_0 17 rfl rfl)
theorem dX6_town_18 : decode cX6_town 18 = .ok (.iconst 2, 1) := dk_5 (dk_at dksX6_town_0 18 rfl rfl)
theorem dX6_town_19 : decode cX6_town 19 = .ok (.invokevirtual 55, 3) := dk_182 0 55 (dk_at dksX6_town_0 19 rfl rfl)
theorem dX6_town_22 : decode cX6_town 22 = .ok (.ireturn, 1) := dk_172 (dk_at dksX6_town_0 22 rfl rfl)
theorem dX6_town_23 : decode cX6_town 23 = .ok (.aload_n 0, 1) := dk_42 (dk_at dksX6_town_0 23 rfl rfl)
theorem dX6_town_24 : decode cX6_town 24 = .ok (.iload_n 1, 1) := dk_27 (dk_at dksX6_town_1 0 rfl rfl)
theorem dX6_town_25 : decode cX6_town 25 = .ok (.putfield 66, 3) := dk_181 0 66 (dk_at dksX6_town_1 1 rfl rfl)
theorem dX6_town_28 : decode cX6_town 28 = .ok (.aload_n 0, 1) := dk_42 (dk_at dksX6_town_1 4 rfl rfl)
theorem dX6_town_29 : decode cX6_town 29 = .ok (.iconst 0, 1) := dk_3 (dk_at dksX6_town_1 5 rfl rfl)
theorem dX6_town_30 : decode cX6_town 30 = .ok (.putfield 296, 3) := dk_181 1 40 (dk_at dksX6_town_1 6 rfl rfl)
theorem dX6_town_33 : decode cX6_town 33 = .ok (.aload_n 0, 1) := dk_42 (dk_at dksX6_town_1 9 rfl rfl)
theorem dX6_town_34 : decode cX6_town 34 = .ok (.iconst 0, 1) := dk_3 (dk_at dksX6_town_1 10 rfl rfl)
theorem dX6_town_35 : decode cX6_town 35 = .ok (.putfield 84, 3) := dk_181 0 84 (dk_at dksX6_town_1 11 rfl rfl)
theorem dX6_town_38 : decode cX6_town 38 = .ok (.aload_n 0, 1) := dk_42 (dk_at dksX6_town_1 14 rfl rfl)
theorem dX6_town_39 : decode cX6_town 39 = .ok (.iconst 0, 1) := dk_3 (dk_at dksX6_town_1 15 rfl rfl)
theorem dX6_town_40 : decode cX6_town 40 = .ok (.putfield 107, 3) := dk_181 0 107 (dk_at dksX6_town_1 16 rfl rfl)
theorem dX6_town_43 : decode cX6_town 43 = .ok (.aload_n 0, 1) := dk_42 (dk_at dksX6_town_1 19 rfl rfl)
theorem dX6_town_44 : decode cX6_town 44 = .ok (.new 160, 3) := dk_187 0 160 (dk_at dksX6_town_1 20 rfl rfl)
theorem dX6_town_47 : decode cX6_town 47 = .ok (.dup, 1) := dk_89 (dk_at dksX6_town_1 23 rfl rfl)
theorem dX6_town_48 : decode cX6_town 48 = .ok (.invokespecial 299, 3) := dk_183 1 43 (dk_at dksX6_town_2 0 rfl rfl)
theorem dX6_town_51 : decode cX6_town 51 = .ok (.putfield 155, 3) := dk_181 0 155 (dk_at dksX6_town_2 3 rfl rfl)
theorem dX6_town_54 : decode cX6_town 54 = .ok (.aload_n 0, 1) := dk_42 (dk_at dksX6_town_2 6 rfl rfl)
theorem dX6_town_55 : decode cX6_town 55 = .ok (.iconst 0, 1) := dk_3 (dk_at dksX6_town_2 7 rfl rfl)
theorem dX6_town_56 : decode cX6_town 56 = .ok (.putfield 81, 3) := dk_181 0 81 (dk_at dksX6_town_2 8 rfl rfl)
theorem dX6_town_59 : decode cX6_town 59 = .ok (.aload_n 0, 1) := dk_42 (dk_at dksX6_town_2 11 rfl rfl)
theorem dX6_town_60 : decode cX6_town 60 = .ok (.invokevirtual 117, 3) := dk_182 0 117 (dk_at dksX6_town_2 12 rfl rfl)
theorem dX6_town_63 : decode cX6_town 63 = .ok (.aload_n 0, 1) := dk_42 (dk_at dksX6_town_2 15 rfl rfl)
theorem dX6_town_64 : decode cX6_town 64 = .ok (.invokevirtual 300, 3) := dk_182 1 44 (dk_at dksX6_town_2 16 rfl rfl)
theorem dX6_town_67 : decode cX6_town 67 = .ok (.aload_n 0, 1) := dk_42 (dk_at dksX6_town_2 19 rfl rfl)
theorem dX6_town_68 : decode cX6_town 68 = .ok (.getfield 107, 3) := dk_180 0 107 (dk_at dksX6_town_2 20 rfl rfl)
theorem dX6_town_71 : decode cX6_town 71 = .ok (.ifCond .le 18, 3) := dk_158 0 18 (dk_at dksX6_town_3 0 rfl rfl)
theorem dX6_town_74 : decode cX6_town 74 = .ok (.aload_n 0, 1) := dk_42 (dk_at dksX6_town_3 3 rfl rfl)
theorem dX6_town_75 : decode cX6_town 75 = .ok (.iconst 4, 1) := dk_7 (dk_at dksX6_town_3 4 rfl rfl)
theorem dX6_town_76 : decode cX6_town 76 = .ok (.putfield 52, 3) := dk_181 0 52 (dk_at dksX6_town_3 5 rfl rfl)
theorem dX6_town_79 : decode cX6_town 79 = .ok (.aload_n 0, 1) := dk_42 (dk_at dksX6_town_3 8 rfl rfl)
theorem dX6_town_80 : decode cX6_town 80 = .ok (.aload_n 0, 1) := dk_42 (dk_at dksX6_town_3 9 rfl rfl)
theorem dX6_town_81 : decode cX6_town 81 = .ok (.getfield 110, 3) := dk_180 0 110 (dk_at dksX6_town_3 10 rfl rfl)
theorem dX6_town_84 : decode cX6_town 84 = .ok (.putfield 9, 3) := dk_181 0 9 (dk_at dksX6_town_3 13 rfl rfl)
theorem dX6_town_87 : decode cX6_town 87 = .ok (.iconst (-1), 1) := dk_2 (dk_at dksX6_town_3 16 rfl rfl)
theorem dX6_town_88 : decode cX6_town 88 = .ok (.ireturn, 1) := dk_172 (dk_at dksX6_town_3 17 rfl rfl)
theorem dX6_town_89 : decode cX6_town 89 = .ok (.aload_n 0, 1) := dk_42 (dk_at dksX6_town_3 18 rfl rfl)
theorem dX6_town_90 : decode cX6_town 90 = .ok (.aload_n 0, 1) := dk_42 (dk_at dksX6_town_3 19 rfl rfl)
theorem dX6_town_91 : decode cX6_town 91 = .ok (.getfield 155, 3) := dk_180 0 155 (dk_at dksX6_town_3 20 rfl rfl)
theorem dX6_town_94 : decode cX6_town 94 = .ok (.putfield 303, 3) := dk_181 1 47 (dk_at dksX6_town_4 0 rfl rfl)
theorem dX6_town_97 : decode cX6_town 97 = .ok (.aload_n 0, 1) := dk_42 (dk_at dksX6_town_4 3 rfl rfl)
theorem dX6_town_98 : decode cX6_town 98 = .ok (.iconst 0, 1) := dk_3 (dk_at dksX6_town_4 4 rfl rfl)
theorem dX6_town_99 : decode cX6_town 99 = .ok (.invokevirtual 305, 3) := dk_182 1 49 (dk_at dksX6_town_4 5 rfl rfl)
theorem dX6_town_102 : decode cX6_town 102 = .ok (.iconst 0, 1) := dk_3 (dk_at dksX6_town_4 8 rfl rfl)
theorem dX6_town_103 : decode cX6_town 103 = .ok (.istore_n 2, 1) := dk_61 (dk_at dksX6_town_4 9 rfl rfl)
theorem dX6_town_104 : decode cX6_town 104 = .ok (.iload_n 2, 1) := dk_28 (dk_at dksX6_town_4 10 rfl rfl)
theorem dX6_town_105 : decode cX6_town 105 = .ok (.bipush 19, 2) := dk_16 19 (dk_at dksX6_town_4 11 rfl rfl)
theorem dX6_town_107 : decode cX6_town 107 = .ok (.if_icmp .ge 21, 3) := dk_162 0 21 (dk_at dksX6_town_4 13 rfl rfl)
theorem dX6_town_110 : decode cX6_town 110 = .ok (.aload_n 0, 1) := dk_42 (dk_at dksX6_town_4 16 rfl rfl)
theorem dX6_town_111 : decode cX6_town 111 = .ok (.getfield 17, 3) := dk_180 0 17 (dk_at dksX6_town_4 17 rfl rfl)
theorem dX6_town_114 : decode cX6_town 114 = .ok (.iload_n 2, 1) := dk_28 (dk_at dksX6_town_4 20 rfl rfl)
theorem dX6_town_115 : decode cX6_town 115 = .ok (.aload_n 0, 1) := dk_42 (dk_at dksX6_town_4 21 rfl rfl)
theorem dX6_town_116 : decode cX6_town 116 = .ok (.getfield 21, 3) := dk_180 0 21 (dk_at dksX6_town_5 0 rfl rfl)
theorem dX6_town_119 : decode cX6_town 119 = .ok (.iload_n 2, 1) := dk_28 (dk_at dksX6_town_5 3 rfl rfl)
theorem dX6_town_120 : decode cX6_town 120 = .ok (.iaload, 1) := dk_46 (dk_at dksX6_town_5 4 rfl rfl)
theorem dX6_town_121 : decode cX6_town 121 = .ok (.iastore, 1) := dk_79 (dk_at dksX6_town_5 5 rfl rfl)
theorem dX6_town_122 : decode cX6_town 122 = .ok (.iinc 2 1, 3) := dk_132 2 1 (dk_at dksX6_town_5 6 rfl rfl)
theorem dX6_town_125 : decode cX6_town 125 = .ok (.goto (-21), 3) := dk_167 255 235 (dk_at dksX6_town_5 9 rfl rfl)
theorem dX6_town_128 : decode cX6_town 128 = .ok (.aload_n 0, 1) := dk_42 (dk_at dksX6_town_5 12 rfl rfl)
theorem dX6_town_129 : decode cX6_town 129 = .ok (.iconst 0, 1) := dk_3 (dk_at dksX6_town_5 13 rfl rfl)
theorem dX6_town_130 : decode cX6_town 130 = .ok (.putfield 308, 3) := dk_181 1 52 (dk_at dksX6_town_5 14 rfl rfl)
theorem dX6_town_133 : decode cX6_town 133 = .ok (.aload_n 0, 1) := dk_42 (dk_at dksX6_town_5 17 rfl rfl)
theorem dX6_town_134 : decode cX6_town 134 = .ok (.iconst 0, 1) := dk_3 (dk_at dksX6_town_5 18 rfl rfl)
theorem dX6_town_135 : decode cX6_town 135 = .ok (.putfield 311, 3) := dk_181 1 55 (dk_at dksX6_town_5 19 rfl rfl)
theorem dX6_town_138 : decode cX6_town 138 = .ok (.aload_n 0, 1) := dk_42 (dk_at dksX6_town_5 22 rfl rfl)
theorem dX6_town_139 : decode cX6_town 139 = .ok (.aload_n 0, 1) := dk_42 (dk_at dksX6_town_5 23 rfl rfl)
theorem dX6_town_140 : decode cX6_town 140 = .ok (.getfield 303, 3) := dk_180 1 47 (dk_at dksX6_town_6 0 rfl rfl)
theorem dX6_town_143 : decode cX6_town 143 = .ok (.getfield 193, 3) := dk_180 0 193 (dk_at dksX6_town_6 3 rfl rfl)
theorem dX6_town_146 : decode cX6_town 146 = .ok (.invokevirtual 59, 3) := dk_182 0 59 (dk_at dksX6_town_6 6 rfl rfl)
theorem dX6_town_149 : decode cX6_town 149 = .ok (.ireturn, 1) := dk_172 (dk_at dksX6_town_6 9 rfl rfl)
abbrev cX6_refused : ByteArray := prog_15_method_3_code
def yX6_refused : MethodName := ⟨RX6, "refused", "(I)I"⟩
def dkwX6_refused_0 : List UInt8 := [42, 27, 181, 0, 52, 42, 2, 181, 0, 9, 2, 172]
abbrev dktX6_refused_0 : List UInt8 := dkwX6_refused_0 ++ []
theorem dksX6_refused_0 : cX6_refused.data.toList.drop 0 = dktX6_refused_0 := by decide +kernel
theorem dX6_refused_0 : decode cX6_refused 0 = .ok (.aload_n 0, 1) := dk_42 (dk_at dksX6_refused_0 0 rfl rfl)
theorem dX6_refused_1 : decode cX6_refused 1 = .ok (.iload_n 1, 1) := dk_27 (dk_at dksX6_refused_0 1 rfl rfl)
theorem dX6_refused_2 : decode cX6_refused 2 = .ok (.putfield 52, 3) := dk_181 0 52 (dk_at dksX6_refused_0 2 rfl rfl)
theorem dX6_refused_5 : decode cX6_refused 5 = .ok (.aload_n 0, 1) := dk_42 (dk_at dksX6_refused_0 5 rfl rfl)
theorem dX6_refused_6 : decode cX6_refused 6 = .ok (.iconst (-1), 1) := dk_2 (dk_at dksX6_refused_0 6 rfl rfl)
theorem dX6_refused_7 : decode cX6_refused 7 = .ok (.putfield 9, 3) := dk_181 0 9 (dk_at dksX6_refused_0 7 rfl rfl)
theorem dX6_refused_10 : decode cX6_refused 10 = .ok (.iconst (-1), 1) := dk_2 (dk_at dksX6_refused_0 10 rfl rfl)
theorem dX6_refused_11 : decode cX6_refused 11 = .ok (.ireturn, 1) := dk_172 (dk_at dksX6_refused_0 11 rfl rfl)
abbrev cX6_goesOn : ByteArray := prog_15_method_17_code
def yX6_goesOn : MethodName := ⟨RX6, "goesOn", "()V"⟩
def dkwX6_goesOn_11 : List UInt8 := [4, 96, 181, 0, 84, 177]
abbrev dktX6_goesOn_11 : List UInt8 := dkwX6_goesOn_11 ++ []
def dkwX6_goesOn_10 : List UInt8 := [42, 6, 181, 0, 81, 167, 0, 24, 27, 16, 59, 160, 0, 18, 42, 7, 181, 0, 81, 42, 89, 180, 0, 84]
abbrev dktX6_goesOn_10 : List UInt8 := dkwX6_goesOn_10 ++ dktX6_goesOn_11
def dkwX6_goesOn_9 : List UInt8 := [181, 0, 104, 132, 2, 1, 42, 89, 180, 0, 84, 4, 96, 181, 0, 84, 167, 255, 201, 28, 6, 163, 0, 32]
abbrev dktX6_goesOn_9 : List UInt8 := dkwX6_goesOn_9 ++ dktX6_goesOn_10
def dkwX6_goesOn_8 : List UInt8 := [162, 0, 26, 42, 16, 10, 42, 180, 0, 104, 104, 42, 42, 180, 0, 84, 182, 0, 87, 96, 16, 48, 100]
abbrev dktX6_goesOn_8 : List UInt8 := dkwX6_goesOn_8 ++ dktX6_goesOn_9
def dkwX6_goesOn_7 : List UInt8 := [153, 0, 79, 42, 3, 181, 0, 104, 42, 42, 180, 0, 84, 182, 0, 87, 184, 0, 101, 153, 0, 47, 28, 6]
abbrev dktX6_goesOn_7 : List UInt8 := dkwX6_goesOn_7 ++ dktX6_goesOn_8
def dkwX6_goesOn_6 : List UInt8 := [181, 0, 84, 167, 255, 196, 28, 16, 8, 163, 0, 115, 42, 5, 181, 0, 81, 167, 0, 107, 27, 184, 0, 101]
abbrev dktX6_goesOn_6 : List UInt8 := dkwX6_goesOn_6 ++ dktX6_goesOn_7
def dkwX6_goesOn_5 : List UInt8 := [182, 0, 87, 16, 97, 100, 4, 96, 133, 97, 181, 0, 97, 132, 2, 1, 42, 89, 180, 0, 84, 4, 96]
abbrev dktX6_goesOn_5 : List UInt8 := dkwX6_goesOn_5 ++ dktX6_goesOn_6
def dkwX6_goesOn_4 : List UInt8 := [153, 0, 52, 28, 16, 8, 162, 0, 30, 42, 20, 0, 75, 42, 180, 0, 97, 105, 42, 42, 180, 0, 84]
abbrev dktX6_goesOn_4 : List UInt8 := dkwX6_goesOn_4 ++ dktX6_goesOn_5
def dkwX6_goesOn_3 : List UInt8 := [27, 184, 0, 93, 153, 0, 85, 42, 9, 181, 0, 97, 42, 42, 180, 0, 84, 182, 0, 87, 184, 0, 93]
abbrev dktX6_goesOn_3 : List UInt8 := dkwX6_goesOn_3 ++ dktX6_goesOn_4
def dkwX6_goesOn_2 : List UInt8 := [42, 42, 180, 0, 84, 182, 0, 87, 60, 3, 61, 27, 2, 160, 0, 11, 42, 4, 181, 0, 81, 167, 0, 196]
abbrev dktX6_goesOn_2 : List UInt8 := dkwX6_goesOn_2 ++ dktX6_goesOn_3
def dkwX6_goesOn_1 : List UInt8 := [180, 0, 84, 4, 96, 181, 0, 84, 167, 255, 233, 42, 42, 180, 0, 84, 181, 0, 90, 42, 3, 181, 0, 81]
abbrev dktX6_goesOn_1 : List UInt8 := dkwX6_goesOn_1 ++ dktX6_goesOn_2
def dkwX6_goesOn_0 : List UInt8 := [42, 180, 0, 81, 8, 160, 0, 4, 177, 42, 42, 180, 0, 84, 182, 0, 87, 16, 32, 160, 0, 16, 42, 89]
abbrev dktX6_goesOn_0 : List UInt8 := dkwX6_goesOn_0 ++ dktX6_goesOn_1
theorem dksX6_goesOn_0 : cX6_goesOn.data.toList.drop 0 = dktX6_goesOn_0 := by decide +kernel
theorem dksX6_goesOn_1 : cX6_goesOn.data.toList.drop 24 = dktX6_goesOn_1 := dk_seg dksX6_goesOn_0 24 rfl rfl
theorem dksX6_goesOn_2 : cX6_goesOn.data.toList.drop 48 = dktX6_goesOn_2 := dk_seg dksX6_goesOn_1 24 rfl rfl
theorem dksX6_goesOn_3 : cX6_goesOn.data.toList.drop 72 = dktX6_goesOn_3 := dk_seg dksX6_goesOn_2 24 rfl rfl
theorem dksX6_goesOn_4 : cX6_goesOn.data.toList.drop 95 = dktX6_goesOn_4 := dk_seg dksX6_goesOn_3 23 rfl rfl
theorem dksX6_goesOn_5 : cX6_goesOn.data.toList.drop 118 = dktX6_goesOn_5 := dk_seg dksX6_goesOn_4 23 rfl rfl
theorem dksX6_goesOn_6 : cX6_goesOn.data.toList.drop 141 = dktX6_goesOn_6 := dk_seg dksX6_goesOn_5 23 rfl rfl
theorem dksX6_goesOn_7 : cX6_goesOn.data.toList.drop 165 = dktX6_goesOn_7 := dk_seg dksX6_goesOn_6 24 rfl rfl
theorem dksX6_goesOn_8 : cX6_goesOn.data.toList.drop 189 = dktX6_goesOn_8 := dk_seg dksX6_goesOn_7 24 rfl rfl
theorem dksX6_goesOn_9 : cX6_goesOn.data.toList.drop 212 = dktX6_goesOn_9 := dk_seg dksX6_goesOn_8 23 rfl rfl
theorem dksX6_goesOn_10 : cX6_goesOn.data.toList.drop 236 = dktX6_goesOn_10 := dk_seg dksX6_goesOn_9 24 rfl rfl
theorem dksX6_goesOn_11 : cX6_goesOn.data.toList.drop 260 = dktX6_goesOn_11 := dk_seg dksX6_goesOn_10 24 rfl rfl
theorem dX6_goesOn_0 : decode cX6_goesOn 0 = .ok (.aload_n 0, 1) := dk_42 (dk_at dksX6_goesOn_0 0 rfl rfl)
theorem dX6_goesOn_1 : decode cX6_goesOn 1 = .ok (.getfield 81, 3) := dk_180 0 81 (dk_at dksX6_goesOn_0 1 rfl rfl)
theorem dX6_goesOn_4 : decode cX6_goesOn 4 = .ok (.iconst 5, 1) := dk_8 (dk_at dksX6_goesOn_0 4 rfl rfl)
theorem dX6_goesOn_5 : decode cX6_goesOn 5 = .ok (.if_icmp .ne 4, 3) := dk_160 0 4 (dk_at dksX6_goesOn_0 5 rfl rfl)
theorem dX6_goesOn_8 : decode cX6_goesOn 8 = .ok (.return_, 1) := dk_177 (dk_at dksX6_goesOn_0 8 rfl rfl)
theorem dX6_goesOn_9 : decode cX6_goesOn 9 = .ok (.aload_n 0, 1) := dk_42 (dk_at dksX6_goesOn_0 9 rfl rfl)
theorem dX6_goesOn_10 : decode cX6_goesOn 10 = .ok (.aload_n 0, 1) := dk_42 (dk_at dksX6_goesOn_0 10 rfl rfl)
theorem dX6_goesOn_11 : decode cX6_goesOn 11 = .ok (.getfield 84, 3) := dk_180 0 84 (dk_at dksX6_goesOn_0 11 rfl rfl)
theorem dX6_goesOn_14 : decode cX6_goesOn 14 = .ok (.invokevirtual 87, 3) := dk_182 0 87 (dk_at dksX6_goesOn_0 14 rfl rfl)
theorem dX6_goesOn_17 : decode cX6_goesOn 17 = .ok (.bipush 32, 2) := dk_16 32 (dk_at dksX6_goesOn_0 17 rfl rfl)
theorem dX6_goesOn_19 : decode cX6_goesOn 19 = .ok (.if_icmp .ne 16, 3) := dk_160 0 16 (dk_at dksX6_goesOn_0 19 rfl rfl)
theorem dX6_goesOn_22 : decode cX6_goesOn 22 = .ok (.aload_n 0, 1) := dk_42 (dk_at dksX6_goesOn_0 22 rfl rfl)
theorem dX6_goesOn_23 : decode cX6_goesOn 23 = .ok (.dup, 1) := dk_89 (dk_at dksX6_goesOn_0 23 rfl rfl)
theorem dX6_goesOn_24 : decode cX6_goesOn 24 = .ok (.getfield 84, 3) := dk_180 0 84 (dk_at dksX6_goesOn_1 0 rfl rfl)
theorem dX6_goesOn_27 : decode cX6_goesOn 27 = .ok (.iconst 1, 1) := dk_4 (dk_at dksX6_goesOn_1 3 rfl rfl)
theorem dX6_goesOn_28 : decode cX6_goesOn 28 = .ok (.iadd, 1) := dk_96 (dk_at dksX6_goesOn_1 4 rfl rfl)
theorem dX6_goesOn_29 : decode cX6_goesOn 29 = .ok (.putfield 84, 3) := dk_181 0 84 (dk_at dksX6_goesOn_1 5 rfl rfl)
theorem dX6_goesOn_32 : decode cX6_goesOn 32 = .ok (.goto (-23), 3) := dk_167 255 233 (dk_at dksX6_goesOn_1 8 rfl rfl)
theorem dX6_goesOn_35 : decode cX6_goesOn 35 = .ok (.aload_n 0, 1) := dk_42 (dk_at dksX6_goesOn_1 11 rfl rfl)
theorem dX6_goesOn_36 : decode cX6_goesOn 36 = .ok (.aload_n 0, 1) := dk_42 (dk_at dksX6_goesOn_1 12 rfl rfl)
theorem dX6_goesOn_37 : decode cX6_goesOn 37 = .ok (.getfield 84, 3) := dk_180 0 84 (dk_at dksX6_goesOn_1 13 rfl rfl)
theorem dX6_goesOn_40 : decode cX6_goesOn 40 = .ok (.putfield 90, 3) := dk_181 0 90 (dk_at dksX6_goesOn_1 16 rfl rfl)
theorem dX6_goesOn_43 : decode cX6_goesOn 43 = .ok (.aload_n 0, 1) := dk_42 (dk_at dksX6_goesOn_1 19 rfl rfl)
theorem dX6_goesOn_44 : decode cX6_goesOn 44 = .ok (.iconst 0, 1) := dk_3 (dk_at dksX6_goesOn_1 20 rfl rfl)
theorem dX6_goesOn_45 : decode cX6_goesOn 45 = .ok (.putfield 81, 3) := dk_181 0 81 (dk_at dksX6_goesOn_1 21 rfl rfl)
theorem dX6_goesOn_48 : decode cX6_goesOn 48 = .ok (.aload_n 0, 1) := dk_42 (dk_at dksX6_goesOn_2 0 rfl rfl)
theorem dX6_goesOn_49 : decode cX6_goesOn 49 = .ok (.aload_n 0, 1) := dk_42 (dk_at dksX6_goesOn_2 1 rfl rfl)
theorem dX6_goesOn_50 : decode cX6_goesOn 50 = .ok (.getfield 84, 3) := dk_180 0 84 (dk_at dksX6_goesOn_2 2 rfl rfl)
theorem dX6_goesOn_53 : decode cX6_goesOn 53 = .ok (.invokevirtual 87, 3) := dk_182 0 87 (dk_at dksX6_goesOn_2 5 rfl rfl)
theorem dX6_goesOn_56 : decode cX6_goesOn 56 = .ok (.istore_n 1, 1) := dk_60 (dk_at dksX6_goesOn_2 8 rfl rfl)
theorem dX6_goesOn_57 : decode cX6_goesOn 57 = .ok (.iconst 0, 1) := dk_3 (dk_at dksX6_goesOn_2 9 rfl rfl)
theorem dX6_goesOn_58 : decode cX6_goesOn 58 = .ok (.istore_n 2, 1) := dk_61 (dk_at dksX6_goesOn_2 10 rfl rfl)
theorem dX6_goesOn_59 : decode cX6_goesOn 59 = .ok (.iload_n 1, 1) := dk_27 (dk_at dksX6_goesOn_2 11 rfl rfl)
theorem dX6_goesOn_60 : decode cX6_goesOn 60 = .ok (.iconst (-1), 1) := dk_2 (dk_at dksX6_goesOn_2 12 rfl rfl)
theorem dX6_goesOn_61 : decode cX6_goesOn 61 = .ok (.if_icmp .ne 11, 3) := dk_160 0 11 (dk_at dksX6_goesOn_2 13 rfl rfl)
theorem dX6_goesOn_64 : decode cX6_goesOn 64 = .ok (.aload_n 0, 1) := dk_42 (dk_at dksX6_goesOn_2 16 rfl rfl)
theorem dX6_goesOn_65 : decode cX6_goesOn 65 = .ok (.iconst 1, 1) := dk_4 (dk_at dksX6_goesOn_2 17 rfl rfl)
theorem dX6_goesOn_66 : decode cX6_goesOn 66 = .ok (.putfield 81, 3) := dk_181 0 81 (dk_at dksX6_goesOn_2 18 rfl rfl)
theorem dX6_goesOn_69 : decode cX6_goesOn 69 = .ok (.goto 196, 3) := dk_167 0 196 (dk_at dksX6_goesOn_2 21 rfl rfl)
theorem dX6_goesOn_72 : decode cX6_goesOn 72 = .ok (.iload_n 1, 1) := dk_27 (dk_at dksX6_goesOn_3 0 rfl rfl)
theorem dX6_goesOn_73 : decode cX6_goesOn 73 = .ok (.invokestatic 93, 3) := dk_184 0 93 (dk_at dksX6_goesOn_3 1 rfl rfl)
theorem dX6_goesOn_76 : decode cX6_goesOn 76 = .ok (.ifCond .eq 85, 3) := dk_153 0 85 (dk_at dksX6_goesOn_3 4 rfl rfl)
theorem dX6_goesOn_79 : decode cX6_goesOn 79 = .ok (.aload_n 0, 1) := dk_42 (dk_at dksX6_goesOn_3 7 rfl rfl)
theorem dX6_goesOn_80 : decode cX6_goesOn 80 = .ok (.lconst 0, 1) := dk_9 (dk_at dksX6_goesOn_3 8 rfl rfl)
theorem dX6_goesOn_81 : decode cX6_goesOn 81 = .ok (.putfield 97, 3) := dk_181 0 97 (dk_at dksX6_goesOn_3 9 rfl rfl)
theorem dX6_goesOn_84 : decode cX6_goesOn 84 = .ok (.aload_n 0, 1) := dk_42 (dk_at dksX6_goesOn_3 12 rfl rfl)
theorem dX6_goesOn_85 : decode cX6_goesOn 85 = .ok (.aload_n 0, 1) := dk_42 (dk_at dksX6_goesOn_3 13 rfl rfl)
theorem dX6_goesOn_86 : decode cX6_goesOn 86 = .ok (.getfield 84, 3) := dk_180 0 84 (dk_at dksX6_goesOn_3 14 rfl rfl)
theorem dX6_goesOn_89 : decode cX6_goesOn 89 = .ok (.invokevirtual 87, 3) := dk_182 0 87 (dk_at dksX6_goesOn_3 17 rfl rfl)
theorem dX6_goesOn_92 : decode cX6_goesOn 92 = .ok (.invokestatic 93, 3) := dk_184 0 93 (dk_at dksX6_goesOn_3 20 rfl rfl)
theorem dX6_goesOn_95 : decode cX6_goesOn 95 = .ok (.ifCond .eq 52, 3) := dk_153 0 52 (dk_at dksX6_goesOn_4 0 rfl rfl)
theorem dX6_goesOn_98 : decode cX6_goesOn 98 = .ok (.iload_n 2, 1) := dk_28 (dk_at dksX6_goesOn_4 3 rfl rfl)
theorem dX6_goesOn_99 : decode cX6_goesOn 99 = .ok (.bipush 8, 2) := dk_16 8 (dk_at dksX6_goesOn_4 4 rfl rfl)
theorem dX6_goesOn_101 : decode cX6_goesOn 101 = .ok (.if_icmp .ge 30, 3) := dk_162 0 30 (dk_at dksX6_goesOn_4 6 rfl rfl)
theorem dX6_goesOn_104 : decode cX6_goesOn 104 = .ok (.aload_n 0, 1) := dk_42 (dk_at dksX6_goesOn_4 9 rfl rfl)
theorem dX6_goesOn_105 : decode cX6_goesOn 105 = .ok (.ldc2_w 75, 3) := dk_20 0 75 (dk_at dksX6_goesOn_4 10 rfl rfl)
theorem dX6_goesOn_108 : decode cX6_goesOn 108 = .ok (.aload_n 0, 1) := dk_42 (dk_at dksX6_goesOn_4 13 rfl rfl)
theorem dX6_goesOn_109 : decode cX6_goesOn 109 = .ok (.getfield 97, 3) := dk_180 0 97 (dk_at dksX6_goesOn_4 14 rfl rfl)
theorem dX6_goesOn_112 : decode cX6_goesOn 112 = .ok (.lmul, 1) := dk_105 (dk_at dksX6_goesOn_4 17 rfl rfl)
theorem dX6_goesOn_113 : decode cX6_goesOn 113 = .ok (.aload_n 0, 1) := dk_42 (dk_at dksX6_goesOn_4 18 rfl rfl)
theorem dX6_goesOn_114 : decode cX6_goesOn 114 = .ok (.aload_n 0, 1) := dk_42 (dk_at dksX6_goesOn_4 19 rfl rfl)
theorem dX6_goesOn_115 : decode cX6_goesOn 115 = .ok (.getfield 84, 3) := dk_180 0 84 (dk_at dksX6_goesOn_4 20 rfl rfl)
theorem dX6_goesOn_118 : decode cX6_goesOn 118 = .ok (.invokevirtual 87, 3) := dk_182 0 87 (dk_at dksX6_goesOn_5 0 rfl rfl)
theorem dX6_goesOn_121 : decode cX6_goesOn 121 = .ok (.bipush 97, 2) := dk_16 97 (dk_at dksX6_goesOn_5 3 rfl rfl)
theorem dX6_goesOn_123 : decode cX6_goesOn 123 = .ok (.isub, 1) := dk_100 (dk_at dksX6_goesOn_5 5 rfl rfl)
theorem dX6_goesOn_124 : decode cX6_goesOn 124 = .ok (.iconst 1, 1) := dk_4 (dk_at dksX6_goesOn_5 6 rfl rfl)
theorem dX6_goesOn_125 : decode cX6_goesOn 125 = .ok (.iadd, 1) := dk_96 (dk_at dksX6_goesOn_5 7 rfl rfl)
theorem dX6_goesOn_126 : decode cX6_goesOn 126 = .ok (.i2l, 1) := dk_133 (dk_at dksX6_goesOn_5 8 rfl rfl)
theorem dX6_goesOn_127 : decode cX6_goesOn 127 = .ok (.ladd, 1) := dk_97 (dk_at dksX6_goesOn_5 9 rfl rfl)
theorem dX6_goesOn_128 : decode cX6_goesOn 128 = .ok (.putfield 97, 3) := dk_181 0 97 (dk_at dksX6_goesOn_5 10 rfl rfl)
theorem dX6_goesOn_131 : decode cX6_goesOn 131 = .ok (.iinc 2 1, 3) := dk_132 2 1 (dk_at dksX6_goesOn_5 13 rfl rfl)
theorem dX6_goesOn_134 : decode cX6_goesOn 134 = .ok (.aload_n 0, 1) := dk_42 (dk_at dksX6_goesOn_5 16 rfl rfl)
theorem dX6_goesOn_135 : decode cX6_goesOn 135 = .ok (.dup, 1) := dk_89 (dk_at dksX6_goesOn_5 17 rfl rfl)
theorem dX6_goesOn_136 : decode cX6_goesOn 136 = .ok (.getfield 84, 3) := dk_180 0 84 (dk_at dksX6_goesOn_5 18 rfl rfl)
theorem dX6_goesOn_139 : decode cX6_goesOn 139 = .ok (.iconst 1, 1) := dk_4 (dk_at dksX6_goesOn_5 21 rfl rfl)
theorem dX6_goesOn_140 : decode cX6_goesOn 140 = .ok (.iadd, 1) := dk_96 (dk_at dksX6_goesOn_5 22 rfl rfl)
theorem dX6_goesOn_141 : decode cX6_goesOn 141 = .ok (.putfield 84, 3) := dk_181 0 84 (dk_at dksX6_goesOn_6 0 rfl rfl)
theorem dX6_goesOn_144 : decode cX6_goesOn 144 = .ok (.goto (-60), 3) := dk_167 255 196 (dk_at dksX6_goesOn_6 3 rfl rfl)
theorem dX6_goesOn_147 : decode cX6_goesOn 147 = .ok (.iload_n 2, 1) := dk_28 (dk_at dksX6_goesOn_6 6 rfl rfl)
theorem dX6_goesOn_148 : decode cX6_goesOn 148 = .ok (.bipush 8, 2) := dk_16 8 (dk_at dksX6_goesOn_6 7 rfl rfl)
theorem dX6_goesOn_150 : decode cX6_goesOn 150 = .ok (.if_icmp .gt 115, 3) := dk_163 0 115 (dk_at dksX6_goesOn_6 9 rfl rfl)
theorem dX6_goesOn_153 : decode cX6_goesOn 153 = .ok (.aload_n 0, 1) := dk_42 (dk_at dksX6_goesOn_6 12 rfl rfl)
theorem dX6_goesOn_154 : decode cX6_goesOn 154 = .ok (.iconst 2, 1) := dk_5 (dk_at dksX6_goesOn_6 13 rfl rfl)
theorem dX6_goesOn_155 : decode cX6_goesOn 155 = .ok (.putfield 81, 3) := dk_181 0 81 (dk_at dksX6_goesOn_6 14 rfl rfl)
theorem dX6_goesOn_158 : decode cX6_goesOn 158 = .ok (.goto 107, 3) := dk_167 0 107 (dk_at dksX6_goesOn_6 17 rfl rfl)
theorem dX6_goesOn_161 : decode cX6_goesOn 161 = .ok (.iload_n 1, 1) := dk_27 (dk_at dksX6_goesOn_6 20 rfl rfl)
theorem dX6_goesOn_162 : decode cX6_goesOn 162 = .ok (.invokestatic 101, 3) := dk_184 0 101 (dk_at dksX6_goesOn_6 21 rfl rfl)
theorem dX6_goesOn_165 : decode cX6_goesOn 165 = .ok (.ifCond .eq 79, 3) := dk_153 0 79 (dk_at dksX6_goesOn_7 0 rfl rfl)
theorem dX6_goesOn_168 : decode cX6_goesOn 168 = .ok (.aload_n 0, 1) := dk_42 (dk_at dksX6_goesOn_7 3 rfl rfl)
theorem dX6_goesOn_169 : decode cX6_goesOn 169 = .ok (.iconst 0, 1) := dk_3 (dk_at dksX6_goesOn_7 4 rfl rfl)
theorem dX6_goesOn_170 : decode cX6_goesOn 170 = .ok (.putfield 104, 3) := dk_181 0 104 (dk_at dksX6_goesOn_7 5 rfl rfl)
theorem dX6_goesOn_173 : decode cX6_goesOn 173 = .ok (.aload_n 0, 1) := dk_42 (dk_at dksX6_goesOn_7 8 rfl rfl)
theorem dX6_goesOn_174 : decode cX6_goesOn 174 = .ok (.aload_n 0, 1) := dk_42 (dk_at dksX6_goesOn_7 9 rfl rfl)
theorem dX6_goesOn_175 : decode cX6_goesOn 175 = .ok (.getfield 84, 3) := dk_180 0 84 (dk_at dksX6_goesOn_7 10 rfl rfl)
theorem dX6_goesOn_178 : decode cX6_goesOn 178 = .ok (.invokevirtual 87, 3) := dk_182 0 87 (dk_at dksX6_goesOn_7 13 rfl rfl)
theorem dX6_goesOn_181 : decode cX6_goesOn 181 = .ok (.invokestatic 101, 3) := dk_184 0 101 (dk_at dksX6_goesOn_7 16 rfl rfl)
theorem dX6_goesOn_184 : decode cX6_goesOn 184 = .ok (.ifCond .eq 47, 3) := dk_153 0 47 (dk_at dksX6_goesOn_7 19 rfl rfl)
theorem dX6_goesOn_187 : decode cX6_goesOn 187 = .ok (.iload_n 2, 1) := dk_28 (dk_at dksX6_goesOn_7 22 rfl rfl)
theorem dX6_goesOn_188 : decode cX6_goesOn 188 = .ok (.iconst 3, 1) := dk_6 (dk_at dksX6_goesOn_7 23 rfl rfl)
theorem dX6_goesOn_189 : decode cX6_goesOn 189 = .ok (.if_icmp .ge 26, 3) := dk_162 0 26 (dk_at dksX6_goesOn_8 0 rfl rfl)
theorem dX6_goesOn_192 : decode cX6_goesOn 192 = .ok (.aload_n 0, 1) := dk_42 (dk_at dksX6_goesOn_8 3 rfl rfl)
theorem dX6_goesOn_193 : decode cX6_goesOn 193 = .ok (.bipush 10, 2) := dk_16 10 (dk_at dksX6_goesOn_8 4 rfl rfl)
theorem dX6_goesOn_195 : decode cX6_goesOn 195 = .ok (.aload_n 0, 1) := dk_42 (dk_at dksX6_goesOn_8 6 rfl rfl)
theorem dX6_goesOn_196 : decode cX6_goesOn 196 = .ok (.getfield 104, 3) := dk_180 0 104 (dk_at dksX6_goesOn_8 7 rfl rfl)
theorem dX6_goesOn_199 : decode cX6_goesOn 199 = .ok (.imul, 1) := dk_104 (dk_at dksX6_goesOn_8 10 rfl rfl)
theorem dX6_goesOn_200 : decode cX6_goesOn 200 = .ok (.aload_n 0, 1) := dk_42 (dk_at dksX6_goesOn_8 11 rfl rfl)
theorem dX6_goesOn_201 : decode cX6_goesOn 201 = .ok (.aload_n 0, 1) := dk_42 (dk_at dksX6_goesOn_8 12 rfl rfl)
theorem dX6_goesOn_202 : decode cX6_goesOn 202 = .ok (.getfield 84, 3) := dk_180 0 84 (dk_at dksX6_goesOn_8 13 rfl rfl)
theorem dX6_goesOn_205 : decode cX6_goesOn 205 = .ok (.invokevirtual 87, 3) := dk_182 0 87 (dk_at dksX6_goesOn_8 16 rfl rfl)
theorem dX6_goesOn_208 : decode cX6_goesOn 208 = .ok (.iadd, 1) := dk_96 (dk_at dksX6_goesOn_8 19 rfl rfl)
theorem dX6_goesOn_209 : decode cX6_goesOn 209 = .ok (.bipush 48, 2) := dk_16 48 (dk_at dksX6_goesOn_8 20 rfl rfl)
theorem dX6_goesOn_211 : decode cX6_goesOn 211 = .ok (.isub, 1) := dk_100 (dk_at dksX6_goesOn_8 22 rfl rfl)
theorem dX6_goesOn_212 : decode cX6_goesOn 212 = .ok (.putfield 104, 3) := dk_181 0 104 (dk_at dksX6_goesOn_9 0 rfl rfl)
theorem dX6_goesOn_215 : decode cX6_goesOn 215 = .ok (.iinc 2 1, 3) := dk_132 2 1 (dk_at dksX6_goesOn_9 3 rfl rfl)
theorem dX6_goesOn_218 : decode cX6_goesOn 218 = .ok (.aload_n 0, 1) := dk_42 (dk_at dksX6_goesOn_9 6 rfl rfl)
theorem dX6_goesOn_219 : decode cX6_goesOn 219 = .ok (.dup, 1) := dk_89 (dk_at dksX6_goesOn_9 7 rfl rfl)
theorem dX6_goesOn_220 : decode cX6_goesOn 220 = .ok (.getfield 84, 3) := dk_180 0 84 (dk_at dksX6_goesOn_9 8 rfl rfl)
theorem dX6_goesOn_223 : decode cX6_goesOn 223 = .ok (.iconst 1, 1) := dk_4 (dk_at dksX6_goesOn_9 11 rfl rfl)
theorem dX6_goesOn_224 : decode cX6_goesOn 224 = .ok (.iadd, 1) := dk_96 (dk_at dksX6_goesOn_9 12 rfl rfl)
theorem dX6_goesOn_225 : decode cX6_goesOn 225 = .ok (.putfield 84, 3) := dk_181 0 84 (dk_at dksX6_goesOn_9 13 rfl rfl)
theorem dX6_goesOn_228 : decode cX6_goesOn 228 = .ok (.goto (-55), 3) := dk_167 255 201 (dk_at dksX6_goesOn_9 16 rfl rfl)
theorem dX6_goesOn_231 : decode cX6_goesOn 231 = .ok (.iload_n 2, 1) := dk_28 (dk_at dksX6_goesOn_9 19 rfl rfl)
theorem dX6_goesOn_232 : decode cX6_goesOn 232 = .ok (.iconst 3, 1) := dk_6 (dk_at dksX6_goesOn_9 20 rfl rfl)
theorem dX6_goesOn_233 : decode cX6_goesOn 233 = .ok (.if_icmp .gt 32, 3) := dk_163 0 32 (dk_at dksX6_goesOn_9 21 rfl rfl)
theorem dX6_goesOn_236 : decode cX6_goesOn 236 = .ok (.aload_n 0, 1) := dk_42 (dk_at dksX6_goesOn_10 0 rfl rfl)
theorem dX6_goesOn_237 : decode cX6_goesOn 237 = .ok (.iconst 3, 1) := dk_6 (dk_at dksX6_goesOn_10 1 rfl rfl)
theorem dX6_goesOn_238 : decode cX6_goesOn 238 = .ok (.putfield 81, 3) := dk_181 0 81 (dk_at dksX6_goesOn_10 2 rfl rfl)
theorem dX6_goesOn_241 : decode cX6_goesOn 241 = .ok (.goto 24, 3) := dk_167 0 24 (dk_at dksX6_goesOn_10 5 rfl rfl)
theorem dX6_goesOn_244 : decode cX6_goesOn 244 = .ok (.iload_n 1, 1) := dk_27 (dk_at dksX6_goesOn_10 8 rfl rfl)
theorem dX6_goesOn_245 : decode cX6_goesOn 245 = .ok (.bipush 59, 2) := dk_16 59 (dk_at dksX6_goesOn_10 9 rfl rfl)
theorem dX6_goesOn_247 : decode cX6_goesOn 247 = .ok (.if_icmp .ne 18, 3) := dk_160 0 18 (dk_at dksX6_goesOn_10 11 rfl rfl)
theorem dX6_goesOn_250 : decode cX6_goesOn 250 = .ok (.aload_n 0, 1) := dk_42 (dk_at dksX6_goesOn_10 14 rfl rfl)
theorem dX6_goesOn_251 : decode cX6_goesOn 251 = .ok (.iconst 4, 1) := dk_7 (dk_at dksX6_goesOn_10 15 rfl rfl)
theorem dX6_goesOn_252 : decode cX6_goesOn 252 = .ok (.putfield 81, 3) := dk_181 0 81 (dk_at dksX6_goesOn_10 16 rfl rfl)
theorem dX6_goesOn_255 : decode cX6_goesOn 255 = .ok (.aload_n 0, 1) := dk_42 (dk_at dksX6_goesOn_10 19 rfl rfl)
theorem dX6_goesOn_256 : decode cX6_goesOn 256 = .ok (.dup, 1) := dk_89 (dk_at dksX6_goesOn_10 20 rfl rfl)
theorem dX6_goesOn_257 : decode cX6_goesOn 257 = .ok (.getfield 84, 3) := dk_180 0 84 (dk_at dksX6_goesOn_10 21 rfl rfl)
theorem dX6_goesOn_260 : decode cX6_goesOn 260 = .ok (.iconst 1, 1) := dk_4 (dk_at dksX6_goesOn_11 0 rfl rfl)
theorem dX6_goesOn_261 : decode cX6_goesOn 261 = .ok (.iadd, 1) := dk_96 (dk_at dksX6_goesOn_11 1 rfl rfl)
theorem dX6_goesOn_262 : decode cX6_goesOn 262 = .ok (.putfield 84, 3) := dk_181 0 84 (dk_at dksX6_goesOn_11 2 rfl rfl)
theorem dX6_goesOn_265 : decode cX6_goesOn 265 = .ok (.return_, 1) := dk_177 (dk_at dksX6_goesOn_11 5 rfl rfl)
abbrev cX6_byteAt : ByteArray := prog_15_method_13_code
def yX6_byteAt : MethodName := ⟨RX6, "byteAt", "(I)I"⟩
def dkwX6_byteAt_0 : List UInt8 := [27, 42, 180, 0, 66, 162, 0, 16, 42, 180, 0, 13, 27, 51, 17, 0, 255, 126, 167, 0, 4, 2, 172]
abbrev dktX6_byteAt_0 : List UInt8 := dkwX6_byteAt_0 ++ []
theorem dksX6_byteAt_0 : cX6_byteAt.data.toList.drop 0 = dktX6_byteAt_0 := by decide +kernel
theorem dX6_byteAt_0 : decode cX6_byteAt 0 = .ok (.iload_n 1, 1) := dk_27 (dk_at dksX6_byteAt_0 0 rfl rfl)
theorem dX6_byteAt_1 : decode cX6_byteAt 1 = .ok (.aload_n 0, 1) := dk_42 (dk_at dksX6_byteAt_0 1 rfl rfl)
theorem dX6_byteAt_2 : decode cX6_byteAt 2 = .ok (.getfield 66, 3) := dk_180 0 66 (dk_at dksX6_byteAt_0 2 rfl rfl)
theorem dX6_byteAt_5 : decode cX6_byteAt 5 = .ok (.if_icmp .ge 16, 3) := dk_162 0 16 (dk_at dksX6_byteAt_0 5 rfl rfl)
theorem dX6_byteAt_8 : decode cX6_byteAt 8 = .ok (.aload_n 0, 1) := dk_42 (dk_at dksX6_byteAt_0 8 rfl rfl)
theorem dX6_byteAt_9 : decode cX6_byteAt 9 = .ok (.getfield 13, 3) := dk_180 0 13 (dk_at dksX6_byteAt_0 9 rfl rfl)
theorem dX6_byteAt_12 : decode cX6_byteAt 12 = .ok (.iload_n 1, 1) := dk_27 (dk_at dksX6_byteAt_0 12 rfl rfl)
theorem dX6_byteAt_13 : decode cX6_byteAt 13 = .ok (.baload, 1) := dk_51 (dk_at dksX6_byteAt_0 13 rfl rfl)
theorem dX6_byteAt_14 : decode cX6_byteAt 14 = .ok (.sipush 255, 3) := dk_17 0 255 (dk_at dksX6_byteAt_0 14 rfl rfl)
theorem dX6_byteAt_17 : decode cX6_byteAt 17 = .ok (.iand, 1) := dk_126 (dk_at dksX6_byteAt_0 17 rfl rfl)
theorem dX6_byteAt_18 : decode cX6_byteAt 18 = .ok (.goto 4, 3) := dk_167 0 4 (dk_at dksX6_byteAt_0 18 rfl rfl)
theorem dX6_byteAt_21 : decode cX6_byteAt 21 = .ok (.iconst (-1), 1) := dk_2 (dk_at dksX6_byteAt_0 21 rfl rfl)
theorem dX6_byteAt_22 : decode cX6_byteAt 22 = .ok (.ireturn, 1) := dk_172 (dk_at dksX6_byteAt_0 22 rfl rfl)
abbrev cX6_isLetter : ByteArray := prog_15_method_14_code
def yX6_isLetter : MethodName := ⟨RX6, "isLetter", "(I)Z"⟩
def dkwX6_isLetter_0 : List UInt8 := [26, 16, 97, 161, 0, 13, 26, 16, 122, 163, 0, 7, 4, 167, 0, 4, 3, 172]
abbrev dktX6_isLetter_0 : List UInt8 := dkwX6_isLetter_0 ++ []
theorem dksX6_isLetter_0 : cX6_isLetter.data.toList.drop 0 = dktX6_isLetter_0 := by decide +kernel
theorem dX6_isLetter_0 : decode cX6_isLetter 0 = .ok (.iload_n 0, 1) := dk_26 (dk_at dksX6_isLetter_0 0 rfl rfl)
theorem dX6_isLetter_1 : decode cX6_isLetter 1 = .ok (.bipush 97, 2) := dk_16 97 (dk_at dksX6_isLetter_0 1 rfl rfl)
theorem dX6_isLetter_3 : decode cX6_isLetter 3 = .ok (.if_icmp .lt 13, 3) := dk_161 0 13 (dk_at dksX6_isLetter_0 3 rfl rfl)
theorem dX6_isLetter_6 : decode cX6_isLetter 6 = .ok (.iload_n 0, 1) := dk_26 (dk_at dksX6_isLetter_0 6 rfl rfl)
theorem dX6_isLetter_7 : decode cX6_isLetter 7 = .ok (.bipush 122, 2) := dk_16 122 (dk_at dksX6_isLetter_0 7 rfl rfl)
theorem dX6_isLetter_9 : decode cX6_isLetter 9 = .ok (.if_icmp .gt 7, 3) := dk_163 0 7 (dk_at dksX6_isLetter_0 9 rfl rfl)
theorem dX6_isLetter_12 : decode cX6_isLetter 12 = .ok (.iconst 1, 1) := dk_4 (dk_at dksX6_isLetter_0 12 rfl rfl)
theorem dX6_isLetter_13 : decode cX6_isLetter 13 = .ok (.goto 4, 3) := dk_167 0 4 (dk_at dksX6_isLetter_0 13 rfl rfl)
theorem dX6_isLetter_16 : decode cX6_isLetter 16 = .ok (.iconst 0, 1) := dk_3 (dk_at dksX6_isLetter_0 16 rfl rfl)
theorem dX6_isLetter_17 : decode cX6_isLetter 17 = .ok (.ireturn, 1) := dk_172 (dk_at dksX6_isLetter_0 17 rfl rfl)
abbrev cX6_isDigit : ByteArray := prog_15_method_15_code
def yX6_isDigit : MethodName := ⟨RX6, "isDigit", "(I)Z"⟩
def dkwX6_isDigit_0 : List UInt8 := [26, 16, 48, 161, 0, 13, 26, 16, 57, 163, 0, 7, 4, 167, 0, 4, 3, 172]
abbrev dktX6_isDigit_0 : List UInt8 := dkwX6_isDigit_0 ++ []
theorem dksX6_isDigit_0 : cX6_isDigit.data.toList.drop 0 = dktX6_isDigit_0 := by decide +kernel
theorem dX6_isDigit_0 : decode cX6_isDigit 0 = .ok (.iload_n 0, 1) := dk_26 (dk_at dksX6_isDigit_0 0 rfl rfl)
theorem dX6_isDigit_1 : decode cX6_isDigit 1 = .ok (.bipush 48, 2) := dk_16 48 (dk_at dksX6_isDigit_0 1 rfl rfl)
theorem dX6_isDigit_3 : decode cX6_isDigit 3 = .ok (.if_icmp .lt 13, 3) := dk_161 0 13 (dk_at dksX6_isDigit_0 3 rfl rfl)
theorem dX6_isDigit_6 : decode cX6_isDigit 6 = .ok (.iload_n 0, 1) := dk_26 (dk_at dksX6_isDigit_0 6 rfl rfl)
theorem dX6_isDigit_7 : decode cX6_isDigit 7 = .ok (.bipush 57, 2) := dk_16 57 (dk_at dksX6_isDigit_0 7 rfl rfl)
theorem dX6_isDigit_9 : decode cX6_isDigit 9 = .ok (.if_icmp .gt 7, 3) := dk_163 0 7 (dk_at dksX6_isDigit_0 9 rfl rfl)
theorem dX6_isDigit_12 : decode cX6_isDigit 12 = .ok (.iconst 1, 1) := dk_4 (dk_at dksX6_isDigit_0 12 rfl rfl)
theorem dX6_isDigit_13 : decode cX6_isDigit 13 = .ok (.goto 4, 3) := dk_167 0 4 (dk_at dksX6_isDigit_0 13 rfl rfl)
theorem dX6_isDigit_16 : decode cX6_isDigit 16 = .ok (.iconst 0, 1) := dk_3 (dk_at dksX6_isDigit_0 16 rfl rfl)
theorem dX6_isDigit_17 : decode cX6_isDigit 17 = .ok (.ireturn, 1) := dk_172 (dk_at dksX6_isDigit_0 17 rfl rfl)
abbrev cX6_readAll : ByteArray := prog_15_method_31_code
def yX6_readAll : MethodName := ⟨RX6, "readAll", "()V"⟩
def dkwX6_readAll_2 : List UInt8 := [177]
abbrev dktX6_readAll_2 : List UInt8 := dkwX6_readAll_2 ++ []
def dkwX6_readAll_1 : List UInt8 := [159, 0, 8, 42, 4, 182, 0, 124, 42, 180, 0, 155, 180, 0, 193, 154, 0, 9, 42, 16, 6, 182, 0, 124]
abbrev dktX6_readAll_1 : List UInt8 := dkwX6_readAll_1 ++ dktX6_readAll_2
def dkwX6_readAll_0 : List UInt8 := [4, 60, 27, 153, 0, 15, 42, 182, 0, 187, 42, 182, 0, 190, 60, 167, 255, 243, 42, 180, 0, 81, 4]
abbrev dktX6_readAll_0 : List UInt8 := dkwX6_readAll_0 ++ dktX6_readAll_1
theorem dksX6_readAll_0 : cX6_readAll.data.toList.drop 0 = dktX6_readAll_0 := by decide +kernel
theorem dksX6_readAll_1 : cX6_readAll.data.toList.drop 23 = dktX6_readAll_1 := dk_seg dksX6_readAll_0 23 rfl rfl
theorem dksX6_readAll_2 : cX6_readAll.data.toList.drop 47 = dktX6_readAll_2 := dk_seg dksX6_readAll_1 24 rfl rfl
theorem dX6_readAll_0 : decode cX6_readAll 0 = .ok (.iconst 1, 1) := dk_4 (dk_at dksX6_readAll_0 0 rfl rfl)
theorem dX6_readAll_1 : decode cX6_readAll 1 = .ok (.istore_n 1, 1) := dk_60 (dk_at dksX6_readAll_0 1 rfl rfl)
theorem dX6_readAll_2 : decode cX6_readAll 2 = .ok (.iload_n 1, 1) := dk_27 (dk_at dksX6_readAll_0 2 rfl rfl)
theorem dX6_readAll_3 : decode cX6_readAll 3 = .ok (.ifCond .eq 15, 3) := dk_153 0 15 (dk_at dksX6_readAll_0 3 rfl rfl)
theorem dX6_readAll_6 : decode cX6_readAll 6 = .ok (.aload_n 0, 1) := dk_42 (dk_at dksX6_readAll_0 6 rfl rfl)
theorem dX6_readAll_7 : decode cX6_readAll 7 = .ok (.invokevirtual 187, 3) := dk_182 0 187 (dk_at dksX6_readAll_0 7 rfl rfl)
theorem dX6_readAll_10 : decode cX6_readAll 10 = .ok (.aload_n 0, 1) := dk_42 (dk_at dksX6_readAll_0 10 rfl rfl)
theorem dX6_readAll_11 : decode cX6_readAll 11 = .ok (.invokevirtual 190, 3) := dk_182 0 190 (dk_at dksX6_readAll_0 11 rfl rfl)
theorem dX6_readAll_14 : decode cX6_readAll 14 = .ok (.istore_n 1, 1) := dk_60 (dk_at dksX6_readAll_0 14 rfl rfl)
theorem dX6_readAll_15 : decode cX6_readAll 15 = .ok (.goto (-13), 3) := dk_167 255 243 (dk_at dksX6_readAll_0 15 rfl rfl)
theorem dX6_readAll_18 : decode cX6_readAll 18 = .ok (.aload_n 0, 1) := dk_42 (dk_at dksX6_readAll_0 18 rfl rfl)
theorem dX6_readAll_19 : decode cX6_readAll 19 = .ok (.getfield 81, 3) := dk_180 0 81 (dk_at dksX6_readAll_0 19 rfl rfl)
theorem dX6_readAll_22 : decode cX6_readAll 22 = .ok (.iconst 1, 1) := dk_4 (dk_at dksX6_readAll_0 22 rfl rfl)
theorem dX6_readAll_23 : decode cX6_readAll 23 = .ok (.if_icmp .eq 8, 3) := dk_159 0 8 (dk_at dksX6_readAll_1 0 rfl rfl)
theorem dX6_readAll_26 : decode cX6_readAll 26 = .ok (.aload_n 0, 1) := dk_42 (dk_at dksX6_readAll_1 3 rfl rfl)
theorem dX6_readAll_27 : decode cX6_readAll 27 = .ok (.iconst 1, 1) := dk_4 (dk_at dksX6_readAll_1 4 rfl rfl)
theorem dX6_readAll_28 : decode cX6_readAll 28 = .ok (.invokevirtual 124, 3) := dk_182 0 124 (dk_at dksX6_readAll_1 5 rfl rfl)
theorem dX6_readAll_31 : decode cX6_readAll 31 = .ok (.aload_n 0, 1) := dk_42 (dk_at dksX6_readAll_1 8 rfl rfl)
theorem dX6_readAll_32 : decode cX6_readAll 32 = .ok (.getfield 155, 3) := dk_180 0 155 (dk_at dksX6_readAll_1 9 rfl rfl)
theorem dX6_readAll_35 : decode cX6_readAll 35 = .ok (.getfield 193, 3) := dk_180 0 193 (dk_at dksX6_readAll_1 12 rfl rfl)
theorem dX6_readAll_38 : decode cX6_readAll 38 = .ok (.ifCond .ne 9, 3) := dk_154 0 9 (dk_at dksX6_readAll_1 15 rfl rfl)
theorem dX6_readAll_41 : decode cX6_readAll 41 = .ok (.aload_n 0, 1) := dk_42 (dk_at dksX6_readAll_1 18 rfl rfl)
theorem dX6_readAll_42 : decode cX6_readAll 42 = .ok (.bipush 6, 2) := dk_16 6 (dk_at dksX6_readAll_1 19 rfl rfl)
theorem dX6_readAll_44 : decode cX6_readAll 44 = .ok (.invokevirtual 124, 3) := dk_182 0 124 (dk_at dksX6_readAll_1 21 rfl rfl)
theorem dX6_readAll_47 : decode cX6_readAll 47 = .ok (.return_, 1) := dk_177 (dk_at dksX6_readAll_2 0 rfl rfl)
abbrev cX6_readLine : ByteArray := prog_15_method_32_code
def yX6_readLine : MethodName := ⟨RX6, "readLine", "()V"⟩
def dkwX6_readLine_4 : List UInt8 := [182, 0, 211, 167, 0, 8, 42, 4, 182, 0, 124, 177]
abbrev dktX6_readLine_4 : List UInt8 := dkwX6_readLine_4 ++ []
def dkwX6_readLine_3 : List UInt8 := [182, 0, 120, 153, 0, 10, 42, 182, 0, 208, 167, 0, 24, 42, 18, 153, 182, 0, 120, 153, 0, 10, 42]
abbrev dktX6_readLine_3 : List UInt8 := dkwX6_readLine_3 ++ dktX6_readLine_4
def dkwX6_readLine_2 : List UInt8 := [167, 0, 56, 42, 18, 149, 182, 0, 120, 153, 0, 10, 42, 182, 0, 205, 167, 0, 40, 42, 18, 151]
abbrev dktX6_readLine_2 : List UInt8 := dkwX6_readLine_2 ++ dktX6_readLine_3
def dkwX6_readLine_1 : List UInt8 := [153, 0, 10, 42, 182, 0, 199, 167, 0, 72, 42, 18, 147, 182, 0, 120, 153, 0, 10, 42, 182, 0, 202]
abbrev dktX6_readLine_1 : List UInt8 := dkwX6_readLine_1 ++ dktX6_readLine_2
def dkwX6_readLine_0 : List UInt8 := [42, 18, 143, 182, 0, 120, 153, 0, 10, 42, 182, 0, 196, 167, 0, 88, 42, 18, 145, 182, 0, 120]
abbrev dktX6_readLine_0 : List UInt8 := dkwX6_readLine_0 ++ dktX6_readLine_1
theorem dksX6_readLine_0 : cX6_readLine.data.toList.drop 0 = dktX6_readLine_0 := by decide +kernel
theorem dksX6_readLine_1 : cX6_readLine.data.toList.drop 22 = dktX6_readLine_1 := dk_seg dksX6_readLine_0 22 rfl rfl
theorem dksX6_readLine_2 : cX6_readLine.data.toList.drop 45 = dktX6_readLine_2 := dk_seg dksX6_readLine_1 23 rfl rfl
theorem dksX6_readLine_3 : cX6_readLine.data.toList.drop 67 = dktX6_readLine_3 := dk_seg dksX6_readLine_2 22 rfl rfl
theorem dksX6_readLine_4 : cX6_readLine.data.toList.drop 90 = dktX6_readLine_4 := dk_seg dksX6_readLine_3 23 rfl rfl
theorem dX6_readLine_0 : decode cX6_readLine 0 = .ok (.aload_n 0, 1) := dk_42 (dk_at dksX6_readLine_0 0 rfl rfl)
theorem dX6_readLine_1 : decode cX6_readLine 1 = .ok (.ldc 143, 2) := dk_18 143 (dk_at dksX6_readLine_0 1 rfl rfl)
theorem dX6_readLine_3 : decode cX6_readLine 3 = .ok (.invokevirtual 120, 3) := dk_182 0 120 (dk_at dksX6_readLine_0 3 rfl rfl)
theorem dX6_readLine_6 : decode cX6_readLine 6 = .ok (.ifCond .eq 10, 3) := dk_153 0 10 (dk_at dksX6_readLine_0 6 rfl rfl)
theorem dX6_readLine_9 : decode cX6_readLine 9 = .ok (.aload_n 0, 1) := dk_42 (dk_at dksX6_readLine_0 9 rfl rfl)
theorem dX6_readLine_10 : decode cX6_readLine 10 = .ok (.invokevirtual 196, 3) := dk_182 0 196 (dk_at dksX6_readLine_0 10 rfl rfl)
theorem dX6_readLine_13 : decode cX6_readLine 13 = .ok (.goto 88, 3) := dk_167 0 88 (dk_at dksX6_readLine_0 13 rfl rfl)
theorem dX6_readLine_16 : decode cX6_readLine 16 = .ok (.aload_n 0, 1) := dk_42 (dk_at dksX6_readLine_0 16 rfl rfl)
theorem dX6_readLine_17 : decode cX6_readLine 17 = .ok (.ldc 145, 2) := dk_18 145 (dk_at dksX6_readLine_0 17 rfl rfl)
theorem dX6_readLine_19 : decode cX6_readLine 19 = .ok (.invokevirtual 120, 3) := dk_182 0 120 (dk_at dksX6_readLine_0 19 rfl rfl)
theorem dX6_readLine_22 : decode cX6_readLine 22 = .ok (.ifCond .eq 10, 3) := dk_153 0 10 (dk_at dksX6_readLine_1 0 rfl rfl)
theorem dX6_readLine_25 : decode cX6_readLine 25 = .ok (.aload_n 0, 1) := dk_42 (dk_at dksX6_readLine_1 3 rfl rfl)
theorem dX6_readLine_26 : decode cX6_readLine 26 = .ok (.invokevirtual 199, 3) := dk_182 0 199 (dk_at dksX6_readLine_1 4 rfl rfl)
theorem dX6_readLine_29 : decode cX6_readLine 29 = .ok (.goto 72, 3) := dk_167 0 72 (dk_at dksX6_readLine_1 7 rfl rfl)
theorem dX6_readLine_32 : decode cX6_readLine 32 = .ok (.aload_n 0, 1) := dk_42 (dk_at dksX6_readLine_1 10 rfl rfl)
theorem dX6_readLine_33 : decode cX6_readLine 33 = .ok (.ldc 147, 2) := dk_18 147 (dk_at dksX6_readLine_1 11 rfl rfl)
theorem dX6_readLine_35 : decode cX6_readLine 35 = .ok (.invokevirtual 120, 3) := dk_182 0 120 (dk_at dksX6_readLine_1 13 rfl rfl)
theorem dX6_readLine_38 : decode cX6_readLine 38 = .ok (.ifCond .eq 10, 3) := dk_153 0 10 (dk_at dksX6_readLine_1 16 rfl rfl)
theorem dX6_readLine_41 : decode cX6_readLine 41 = .ok (.aload_n 0, 1) := dk_42 (dk_at dksX6_readLine_1 19 rfl rfl)
theorem dX6_readLine_42 : decode cX6_readLine 42 = .ok (.invokevirtual 202, 3) := dk_182 0 202 (dk_at dksX6_readLine_1 20 rfl rfl)
theorem dX6_readLine_45 : decode cX6_readLine 45 = .ok (.goto 56, 3) := dk_167 0 56 (dk_at dksX6_readLine_2 0 rfl rfl)
theorem dX6_readLine_48 : decode cX6_readLine 48 = .ok (.aload_n 0, 1) := dk_42 (dk_at dksX6_readLine_2 3 rfl rfl)
theorem dX6_readLine_49 : decode cX6_readLine 49 = .ok (.ldc 149, 2) := dk_18 149 (dk_at dksX6_readLine_2 4 rfl rfl)
theorem dX6_readLine_51 : decode cX6_readLine 51 = .ok (.invokevirtual 120, 3) := dk_182 0 120 (dk_at dksX6_readLine_2 6 rfl rfl)
theorem dX6_readLine_54 : decode cX6_readLine 54 = .ok (.ifCond .eq 10, 3) := dk_153 0 10 (dk_at dksX6_readLine_2 9 rfl rfl)
theorem dX6_readLine_57 : decode cX6_readLine 57 = .ok (.aload_n 0, 1) := dk_42 (dk_at dksX6_readLine_2 12 rfl rfl)
theorem dX6_readLine_58 : decode cX6_readLine 58 = .ok (.invokevirtual 205, 3) := dk_182 0 205 (dk_at dksX6_readLine_2 13 rfl rfl)
theorem dX6_readLine_61 : decode cX6_readLine 61 = .ok (.goto 40, 3) := dk_167 0 40 (dk_at dksX6_readLine_2 16 rfl rfl)
theorem dX6_readLine_64 : decode cX6_readLine 64 = .ok (.aload_n 0, 1) := dk_42 (dk_at dksX6_readLine_2 19 rfl rfl)
theorem dX6_readLine_65 : decode cX6_readLine 65 = .ok (.ldc 151, 2) := dk_18 151 (dk_at dksX6_readLine_2 20 rfl rfl)
theorem dX6_readLine_67 : decode cX6_readLine 67 = .ok (.invokevirtual 120, 3) := dk_182 0 120 (dk_at dksX6_readLine_3 0 rfl rfl)
theorem dX6_readLine_70 : decode cX6_readLine 70 = .ok (.ifCond .eq 10, 3) := dk_153 0 10 (dk_at dksX6_readLine_3 3 rfl rfl)
theorem dX6_readLine_73 : decode cX6_readLine 73 = .ok (.aload_n 0, 1) := dk_42 (dk_at dksX6_readLine_3 6 rfl rfl)
theorem dX6_readLine_74 : decode cX6_readLine 74 = .ok (.invokevirtual 208, 3) := dk_182 0 208 (dk_at dksX6_readLine_3 7 rfl rfl)
theorem dX6_readLine_77 : decode cX6_readLine 77 = .ok (.goto 24, 3) := dk_167 0 24 (dk_at dksX6_readLine_3 10 rfl rfl)
theorem dX6_readLine_80 : decode cX6_readLine 80 = .ok (.aload_n 0, 1) := dk_42 (dk_at dksX6_readLine_3 13 rfl rfl)
theorem dX6_readLine_81 : decode cX6_readLine 81 = .ok (.ldc 153, 2) := dk_18 153 (dk_at dksX6_readLine_3 14 rfl rfl)
theorem dX6_readLine_83 : decode cX6_readLine 83 = .ok (.invokevirtual 120, 3) := dk_182 0 120 (dk_at dksX6_readLine_3 16 rfl rfl)
theorem dX6_readLine_86 : decode cX6_readLine 86 = .ok (.ifCond .eq 10, 3) := dk_153 0 10 (dk_at dksX6_readLine_3 19 rfl rfl)
theorem dX6_readLine_89 : decode cX6_readLine 89 = .ok (.aload_n 0, 1) := dk_42 (dk_at dksX6_readLine_3 22 rfl rfl)
theorem dX6_readLine_90 : decode cX6_readLine 90 = .ok (.invokevirtual 211, 3) := dk_182 0 211 (dk_at dksX6_readLine_4 0 rfl rfl)
theorem dX6_readLine_93 : decode cX6_readLine 93 = .ok (.goto 8, 3) := dk_167 0 8 (dk_at dksX6_readLine_4 3 rfl rfl)
theorem dX6_readLine_96 : decode cX6_readLine 96 = .ok (.aload_n 0, 1) := dk_42 (dk_at dksX6_readLine_4 6 rfl rfl)
theorem dX6_readLine_97 : decode cX6_readLine 97 = .ok (.iconst 1, 1) := dk_4 (dk_at dksX6_readLine_4 7 rfl rfl)
theorem dX6_readLine_98 : decode cX6_readLine 98 = .ok (.invokevirtual 124, 3) := dk_182 0 124 (dk_at dksX6_readLine_4 8 rfl rfl)
theorem dX6_readLine_101 : decode cX6_readLine 101 = .ok (.return_, 1) := dk_177 (dk_at dksX6_readLine_4 11 rfl rfl)
abbrev cX6_isWord : ByteArray := prog_15_method_19_code
def yX6_isWord : MethodName := ⟨RX6, "isWord", "(Ljava/lang/String;)Z"⟩
def dkwX6_isWord_1 : List UInt8 := [3, 172]
abbrev dktX6_isWord_1 : List UInt8 := dkwX6_isWord_1 ++ []
def dkwX6_isWord_0 : List UInt8 := [42, 180, 0, 81, 5, 160, 0, 19, 42, 180, 0, 97, 43, 184, 0, 113, 148, 154, 0, 7, 4, 167, 0, 4]
abbrev dktX6_isWord_0 : List UInt8 := dkwX6_isWord_0 ++ dktX6_isWord_1
theorem dksX6_isWord_0 : cX6_isWord.data.toList.drop 0 = dktX6_isWord_0 := by decide +kernel
theorem dksX6_isWord_1 : cX6_isWord.data.toList.drop 24 = dktX6_isWord_1 := dk_seg dksX6_isWord_0 24 rfl rfl
theorem dX6_isWord_0 : decode cX6_isWord 0 = .ok (.aload_n 0, 1) := dk_42 (dk_at dksX6_isWord_0 0 rfl rfl)
theorem dX6_isWord_1 : decode cX6_isWord 1 = .ok (.getfield 81, 3) := dk_180 0 81 (dk_at dksX6_isWord_0 1 rfl rfl)
theorem dX6_isWord_4 : decode cX6_isWord 4 = .ok (.iconst 2, 1) := dk_5 (dk_at dksX6_isWord_0 4 rfl rfl)
theorem dX6_isWord_5 : decode cX6_isWord 5 = .ok (.if_icmp .ne 19, 3) := dk_160 0 19 (dk_at dksX6_isWord_0 5 rfl rfl)
theorem dX6_isWord_8 : decode cX6_isWord 8 = .ok (.aload_n 0, 1) := dk_42 (dk_at dksX6_isWord_0 8 rfl rfl)
theorem dX6_isWord_9 : decode cX6_isWord 9 = .ok (.getfield 97, 3) := dk_180 0 97 (dk_at dksX6_isWord_0 9 rfl rfl)
theorem dX6_isWord_12 : decode cX6_isWord 12 = .ok (.aload_n 1, 1) := dk_43 (dk_at dksX6_isWord_0 12 rfl rfl)
theorem dX6_isWord_13 : decode cX6_isWord 13 = .ok (.invokestatic 113, 3) := dk_184 0 113 (dk_at dksX6_isWord_0 13 rfl rfl)
theorem dX6_isWord_16 : decode cX6_isWord 16 = .ok (.lcmp, 1) := dk_148 (dk_at dksX6_isWord_0 16 rfl rfl)
theorem dX6_isWord_17 : decode cX6_isWord 17 = .ok (.ifCond .ne 7, 3) := dk_154 0 7 (dk_at dksX6_isWord_0 17 rfl rfl)
theorem dX6_isWord_20 : decode cX6_isWord 20 = .ok (.iconst 1, 1) := dk_4 (dk_at dksX6_isWord_0 20 rfl rfl)
theorem dX6_isWord_21 : decode cX6_isWord 21 = .ok (.goto 4, 3) := dk_167 0 4 (dk_at dksX6_isWord_0 21 rfl rfl)
theorem dX6_isWord_24 : decode cX6_isWord 24 = .ok (.iconst 0, 1) := dk_3 (dk_at dksX6_isWord_1 0 rfl rfl)
theorem dX6_isWord_25 : decode cX6_isWord 25 = .ok (.ireturn, 1) := dk_172 (dk_at dksX6_isWord_1 1 rfl rfl)
abbrev cX6_packed : ByteArray := prog_15_method_16_code
def yX6_packed : MethodName := ⟨RX6, "packed", "(Ljava/lang/String;)J"⟩
def dkwX6_packed_1 : List UInt8 := [100, 4, 96, 133, 97, 64, 132, 3, 1, 167, 255, 227, 31, 173]
abbrev dktX6_packed_1 : List UInt8 := dkwX6_packed_1 ++ []
def dkwX6_packed_0 : List UInt8 := [9, 64, 3, 62, 29, 42, 182, 0, 69, 162, 0, 27, 20, 0, 75, 31, 105, 42, 29, 182, 0, 77, 16, 97]
abbrev dktX6_packed_0 : List UInt8 := dkwX6_packed_0 ++ dktX6_packed_1
theorem dksX6_packed_0 : cX6_packed.data.toList.drop 0 = dktX6_packed_0 := by decide +kernel
theorem dksX6_packed_1 : cX6_packed.data.toList.drop 24 = dktX6_packed_1 := dk_seg dksX6_packed_0 24 rfl rfl
theorem dX6_packed_0 : decode cX6_packed 0 = .ok (.lconst 0, 1) := dk_9 (dk_at dksX6_packed_0 0 rfl rfl)
theorem dX6_packed_1 : decode cX6_packed 1 = .ok (.lstore_n 1, 1) := dk_64 (dk_at dksX6_packed_0 1 rfl rfl)
theorem dX6_packed_2 : decode cX6_packed 2 = .ok (.iconst 0, 1) := dk_3 (dk_at dksX6_packed_0 2 rfl rfl)
theorem dX6_packed_3 : decode cX6_packed 3 = .ok (.istore_n 3, 1) := dk_62 (dk_at dksX6_packed_0 3 rfl rfl)
theorem dX6_packed_4 : decode cX6_packed 4 = .ok (.iload_n 3, 1) := dk_29 (dk_at dksX6_packed_0 4 rfl rfl)
theorem dX6_packed_5 : decode cX6_packed 5 = .ok (.aload_n 0, 1) := dk_42 (dk_at dksX6_packed_0 5 rfl rfl)
theorem dX6_packed_6 : decode cX6_packed 6 = .ok (.invokevirtual 69, 3) := dk_182 0 69 (dk_at dksX6_packed_0 6 rfl rfl)
theorem dX6_packed_9 : decode cX6_packed 9 = .ok (.if_icmp .ge 27, 3) := dk_162 0 27 (dk_at dksX6_packed_0 9 rfl rfl)
theorem dX6_packed_12 : decode cX6_packed 12 = .ok (.ldc2_w 75, 3) := dk_20 0 75 (dk_at dksX6_packed_0 12 rfl rfl)
theorem dX6_packed_15 : decode cX6_packed 15 = .ok (.lload_n 1, 1) := dk_31 (dk_at dksX6_packed_0 15 rfl rfl)
theorem dX6_packed_16 : decode cX6_packed 16 = .ok (.lmul, 1) := dk_105 (dk_at dksX6_packed_0 16 rfl rfl)
theorem dX6_packed_17 : decode cX6_packed 17 = .ok (.aload_n 0, 1) := dk_42 (dk_at dksX6_packed_0 17 rfl rfl)
theorem dX6_packed_18 : decode cX6_packed 18 = .ok (.iload_n 3, 1) := dk_29 (dk_at dksX6_packed_0 18 rfl rfl)
theorem dX6_packed_19 : decode cX6_packed 19 = .ok (.invokevirtual 77, 3) := dk_182 0 77 (dk_at dksX6_packed_0 19 rfl rfl)
theorem dX6_packed_22 : decode cX6_packed 22 = .ok (.bipush 97, 2) := dk_16 97 (dk_at dksX6_packed_0 22 rfl rfl)
theorem dX6_packed_24 : decode cX6_packed 24 = .ok (.isub, 1) := dk_100 (dk_at dksX6_packed_1 0 rfl rfl)
theorem dX6_packed_25 : decode cX6_packed 25 = .ok (.iconst 1, 1) := dk_4 (dk_at dksX6_packed_1 1 rfl rfl)
theorem dX6_packed_26 : decode cX6_packed 26 = .ok (.iadd, 1) := dk_96 (dk_at dksX6_packed_1 2 rfl rfl)
theorem dX6_packed_27 : decode cX6_packed 27 = .ok (.i2l, 1) := dk_133 (dk_at dksX6_packed_1 3 rfl rfl)
theorem dX6_packed_28 : decode cX6_packed 28 = .ok (.ladd, 1) := dk_97 (dk_at dksX6_packed_1 4 rfl rfl)
theorem dX6_packed_29 : decode cX6_packed 29 = .ok (.lstore_n 1, 1) := dk_64 (dk_at dksX6_packed_1 5 rfl rfl)
theorem dX6_packed_30 : decode cX6_packed 30 = .ok (.iinc 3 1, 3) := dk_132 3 1 (dk_at dksX6_packed_1 6 rfl rfl)
theorem dX6_packed_33 : decode cX6_packed 33 = .ok (.goto (-29), 3) := dk_167 255 227 (dk_at dksX6_packed_1 9 rfl rfl)
theorem dX6_packed_36 : decode cX6_packed 36 = .ok (.lload_n 1, 1) := dk_31 (dk_at dksX6_packed_1 12 rfl rfl)
theorem dX6_packed_37 : decode cX6_packed 37 = .ok (.lreturn, 1) := dk_173 (dk_at dksX6_packed_1 13 rfl rfl)
abbrev cX6_readTown : ByteArray := prog_15_method_33_code
def yX6_readTown : MethodName := ⟨RX6, "readTown", "()V"⟩
def dkwX6_readTown_2 : List UInt8 := [177, 42, 180, 0, 155, 27, 181, 0, 159, 42, 180, 0, 155, 28, 181, 0, 221, 177]
abbrev dktX6_readTown_2 : List UInt8 := dkwX6_readTown_2 ++ []
def dkwX6_readTown_1 : List UInt8 := [16, 40, 182, 0, 215, 60, 42, 18, 219, 3, 16, 100, 182, 0, 215, 61, 42, 180, 0, 81, 8, 160, 0, 4]
abbrev dktX6_readTown_1 : List UInt8 := dkwX6_readTown_1 ++ dktX6_readTown_2
def dkwX6_readTown_0 : List UInt8 := [42, 180, 0, 155, 180, 0, 159, 158, 0, 8, 42, 6, 182, 0, 124, 42, 182, 0, 117, 42, 18, 214, 5]
abbrev dktX6_readTown_0 : List UInt8 := dkwX6_readTown_0 ++ dktX6_readTown_1
theorem dksX6_readTown_0 : cX6_readTown.data.toList.drop 0 = dktX6_readTown_0 := by decide +kernel
theorem dksX6_readTown_1 : cX6_readTown.data.toList.drop 23 = dktX6_readTown_1 := dk_seg dksX6_readTown_0 23 rfl rfl
theorem dksX6_readTown_2 : cX6_readTown.data.toList.drop 47 = dktX6_readTown_2 := dk_seg dksX6_readTown_1 24 rfl rfl
theorem dX6_readTown_0 : decode cX6_readTown 0 = .ok (.aload_n 0, 1) := dk_42 (dk_at dksX6_readTown_0 0 rfl rfl)
theorem dX6_readTown_1 : decode cX6_readTown 1 = .ok (.getfield 155, 3) := dk_180 0 155 (dk_at dksX6_readTown_0 1 rfl rfl)
theorem dX6_readTown_4 : decode cX6_readTown 4 = .ok (.getfield 159, 3) := dk_180 0 159 (dk_at dksX6_readTown_0 4 rfl rfl)
theorem dX6_readTown_7 : decode cX6_readTown 7 = .ok (.ifCond .le 8, 3) := dk_158 0 8 (dk_at dksX6_readTown_0 7 rfl rfl)
theorem dX6_readTown_10 : decode cX6_readTown 10 = .ok (.aload_n 0, 1) := dk_42 (dk_at dksX6_readTown_0 10 rfl rfl)
theorem dX6_readTown_11 : decode cX6_readTown 11 = .ok (.iconst 3, 1) := dk_6 (dk_at dksX6_readTown_0 11 rfl rfl)
theorem dX6_readTown_12 : decode cX6_readTown 12 = .ok (.invokevirtual 124, 3) := dk_182 0 124 (dk_at dksX6_readTown_0 12 rfl rfl)
theorem dX6_readTown_15 : decode cX6_readTown 15 = .ok (.aload_n 0, 1) := dk_42 (dk_at dksX6_readTown_0 15 rfl rfl)
theorem dX6_readTown_16 : decode cX6_readTown 16 = .ok (.invokevirtual 117, 3) := dk_182 0 117 (dk_at dksX6_readTown_0 16 rfl rfl)
theorem dX6_readTown_19 : decode cX6_readTown 19 = .ok (.aload_n 0, 1) := dk_42 (dk_at dksX6_readTown_0 19 rfl rfl)
theorem dX6_readTown_20 : decode cX6_readTown 20 = .ok (.ldc 214, 2) := dk_18 214 (dk_at dksX6_readTown_0 20 rfl rfl)
theorem dX6_readTown_22 : decode cX6_readTown 22 = .ok (.iconst 2, 1) := dk_5 (dk_at dksX6_readTown_0 22 rfl rfl)
theorem dX6_readTown_23 : decode cX6_readTown 23 = .ok (.bipush 40, 2) := dk_16 40 (dk_at dksX6_readTown_1 0 rfl rfl)
theorem dX6_readTown_25 : decode cX6_readTown 25 = .ok (.invokevirtual 215, 3) := dk_182 0 215 (dk_at dksX6_readTown_1 2 rfl rfl)
theorem dX6_readTown_28 : decode cX6_readTown 28 = .ok (.istore_n 1, 1) := dk_60 (dk_at dksX6_readTown_1 5 rfl rfl)
theorem dX6_readTown_29 : decode cX6_readTown 29 = .ok (.aload_n 0, 1) := dk_42 (dk_at dksX6_readTown_1 6 rfl rfl)
theorem dX6_readTown_30 : decode cX6_readTown 30 = .ok (.ldc 219, 2) := dk_18 219 (dk_at dksX6_readTown_1 7 rfl rfl)
theorem dX6_readTown_32 : decode cX6_readTown 32 = .ok (.iconst 0, 1) := dk_3 (dk_at dksX6_readTown_1 9 rfl rfl)
theorem dX6_readTown_33 : decode cX6_readTown 33 = .ok (.bipush 100, 2) := dk_16 100 (dk_at dksX6_readTown_1 10 rfl rfl)
theorem dX6_readTown_35 : decode cX6_readTown 35 = .ok (.invokevirtual 215, 3) := dk_182 0 215 (dk_at dksX6_readTown_1 12 rfl rfl)
theorem dX6_readTown_38 : decode cX6_readTown 38 = .ok (.istore_n 2, 1) := dk_61 (dk_at dksX6_readTown_1 15 rfl rfl)
theorem dX6_readTown_39 : decode cX6_readTown 39 = .ok (.aload_n 0, 1) := dk_42 (dk_at dksX6_readTown_1 16 rfl rfl)
theorem dX6_readTown_40 : decode cX6_readTown 40 = .ok (.getfield 81, 3) := dk_180 0 81 (dk_at dksX6_readTown_1 17 rfl rfl)
theorem dX6_readTown_43 : decode cX6_readTown 43 = .ok (.iconst 5, 1) := dk_8 (dk_at dksX6_readTown_1 20 rfl rfl)
theorem dX6_readTown_44 : decode cX6_readTown 44 = .ok (.if_icmp .ne 4, 3) := dk_160 0 4 (dk_at dksX6_readTown_1 21 rfl rfl)
theorem dX6_readTown_47 : decode cX6_readTown 47 = .ok (.return_, 1) := dk_177 (dk_at dksX6_readTown_2 0 rfl rfl)
theorem dX6_readTown_48 : decode cX6_readTown 48 = .ok (.aload_n 0, 1) := dk_42 (dk_at dksX6_readTown_2 1 rfl rfl)
theorem dX6_readTown_49 : decode cX6_readTown 49 = .ok (.getfield 155, 3) := dk_180 0 155 (dk_at dksX6_readTown_2 2 rfl rfl)
theorem dX6_readTown_52 : decode cX6_readTown 52 = .ok (.iload_n 1, 1) := dk_27 (dk_at dksX6_readTown_2 5 rfl rfl)
theorem dX6_readTown_53 : decode cX6_readTown 53 = .ok (.putfield 159, 3) := dk_181 0 159 (dk_at dksX6_readTown_2 6 rfl rfl)
theorem dX6_readTown_56 : decode cX6_readTown 56 = .ok (.aload_n 0, 1) := dk_42 (dk_at dksX6_readTown_2 9 rfl rfl)
theorem dX6_readTown_57 : decode cX6_readTown 57 = .ok (.getfield 155, 3) := dk_180 0 155 (dk_at dksX6_readTown_2 10 rfl rfl)
theorem dX6_readTown_60 : decode cX6_readTown 60 = .ok (.iload_n 2, 1) := dk_28 (dk_at dksX6_readTown_2 13 rfl rfl)
theorem dX6_readTown_61 : decode cX6_readTown 61 = .ok (.putfield 221, 3) := dk_181 0 221 (dk_at dksX6_readTown_2 14 rfl rfl)
theorem dX6_readTown_64 : decode cX6_readTown 64 = .ok (.return_, 1) := dk_177 (dk_at dksX6_readTown_2 17 rfl rfl)
abbrev cX6_flaw : ByteArray := prog_15_method_18_code
def yX6_flaw : MethodName := ⟨RX6, "flaw", "(I)V"⟩
def dkwX6_flaw_1 : List UInt8 := [181, 0, 81, 177]
abbrev dktX6_flaw_1 : List UInt8 := dkwX6_flaw_1 ++ []
def dkwX6_flaw_0 : List UInt8 := [42, 180, 0, 81, 8, 160, 0, 4, 177, 42, 27, 181, 0, 107, 42, 42, 180, 0, 90, 181, 0, 110, 42, 8]
abbrev dktX6_flaw_0 : List UInt8 := dkwX6_flaw_0 ++ dktX6_flaw_1
theorem dksX6_flaw_0 : cX6_flaw.data.toList.drop 0 = dktX6_flaw_0 := by decide +kernel
theorem dksX6_flaw_1 : cX6_flaw.data.toList.drop 24 = dktX6_flaw_1 := dk_seg dksX6_flaw_0 24 rfl rfl
theorem dX6_flaw_0 : decode cX6_flaw 0 = .ok (.aload_n 0, 1) := dk_42 (dk_at dksX6_flaw_0 0 rfl rfl)
theorem dX6_flaw_1 : decode cX6_flaw 1 = .ok (.getfield 81, 3) := dk_180 0 81 (dk_at dksX6_flaw_0 1 rfl rfl)
theorem dX6_flaw_4 : decode cX6_flaw 4 = .ok (.iconst 5, 1) := dk_8 (dk_at dksX6_flaw_0 4 rfl rfl)
theorem dX6_flaw_5 : decode cX6_flaw 5 = .ok (.if_icmp .ne 4, 3) := dk_160 0 4 (dk_at dksX6_flaw_0 5 rfl rfl)
theorem dX6_flaw_8 : decode cX6_flaw 8 = .ok (.return_, 1) := dk_177 (dk_at dksX6_flaw_0 8 rfl rfl)
theorem dX6_flaw_9 : decode cX6_flaw 9 = .ok (.aload_n 0, 1) := dk_42 (dk_at dksX6_flaw_0 9 rfl rfl)
theorem dX6_flaw_10 : decode cX6_flaw 10 = .ok (.iload_n 1, 1) := dk_27 (dk_at dksX6_flaw_0 10 rfl rfl)
theorem dX6_flaw_11 : decode cX6_flaw 11 = .ok (.putfield 107, 3) := dk_181 0 107 (dk_at dksX6_flaw_0 11 rfl rfl)
theorem dX6_flaw_14 : decode cX6_flaw 14 = .ok (.aload_n 0, 1) := dk_42 (dk_at dksX6_flaw_0 14 rfl rfl)
theorem dX6_flaw_15 : decode cX6_flaw 15 = .ok (.aload_n 0, 1) := dk_42 (dk_at dksX6_flaw_0 15 rfl rfl)
theorem dX6_flaw_16 : decode cX6_flaw 16 = .ok (.getfield 90, 3) := dk_180 0 90 (dk_at dksX6_flaw_0 16 rfl rfl)
theorem dX6_flaw_19 : decode cX6_flaw 19 = .ok (.putfield 110, 3) := dk_181 0 110 (dk_at dksX6_flaw_0 19 rfl rfl)
theorem dX6_flaw_22 : decode cX6_flaw 22 = .ok (.aload_n 0, 1) := dk_42 (dk_at dksX6_flaw_0 22 rfl rfl)
theorem dX6_flaw_23 : decode cX6_flaw 23 = .ok (.iconst 5, 1) := dk_8 (dk_at dksX6_flaw_0 23 rfl rfl)
theorem dX6_flaw_24 : decode cX6_flaw 24 = .ok (.putfield 81, 3) := dk_181 0 81 (dk_at dksX6_flaw_1 0 rfl rfl)
theorem dX6_flaw_27 : decode cX6_flaw 27 = .ok (.return_, 1) := dk_177 (dk_at dksX6_flaw_1 3 rfl rfl)
abbrev cX6_readPart : ByteArray := prog_15_method_24_code
def yX6_readPart : MethodName := ⟨RX6, "readPart", "(Ljava/lang/String;II)I"⟩
def dkwX6_readPart_0 : List UInt8 := [42, 43, 182, 0, 136, 42, 28, 29, 182, 0, 140, 172]
abbrev dktX6_readPart_0 : List UInt8 := dkwX6_readPart_0 ++ []
theorem dksX6_readPart_0 : cX6_readPart.data.toList.drop 0 = dktX6_readPart_0 := by decide +kernel
theorem dX6_readPart_0 : decode cX6_readPart 0 = .ok (.aload_n 0, 1) := dk_42 (dk_at dksX6_readPart_0 0 rfl rfl)
theorem dX6_readPart_1 : decode cX6_readPart 1 = .ok (.aload_n 1, 1) := dk_43 (dk_at dksX6_readPart_0 1 rfl rfl)
theorem dX6_readPart_2 : decode cX6_readPart 2 = .ok (.invokevirtual 136, 3) := dk_182 0 136 (dk_at dksX6_readPart_0 2 rfl rfl)
theorem dX6_readPart_5 : decode cX6_readPart 5 = .ok (.aload_n 0, 1) := dk_42 (dk_at dksX6_readPart_0 5 rfl rfl)
theorem dX6_readPart_6 : decode cX6_readPart 6 = .ok (.iload_n 2, 1) := dk_28 (dk_at dksX6_readPart_0 6 rfl rfl)
theorem dX6_readPart_7 : decode cX6_readPart 7 = .ok (.iload_n 3, 1) := dk_29 (dk_at dksX6_readPart_0 7 rfl rfl)
theorem dX6_readPart_8 : decode cX6_readPart 8 = .ok (.invokevirtual 140, 3) := dk_182 0 140 (dk_at dksX6_readPart_0 8 rfl rfl)
theorem dX6_readPart_11 : decode cX6_readPart 11 = .ok (.ireturn, 1) := dk_172 (dk_at dksX6_readPart_0 11 rfl rfl)
abbrev cX6_needs : ByteArray := prog_15_method_21_code
def yX6_needs : MethodName := ⟨RX6, "needs", "(Ljava/lang/String;)V"⟩
def dkwX6_needs_0 : List UInt8 := [42, 43, 182, 0, 120, 154, 0, 8, 42, 4, 182, 0, 124, 42, 182, 0, 117, 177]
abbrev dktX6_needs_0 : List UInt8 := dkwX6_needs_0 ++ []
theorem dksX6_needs_0 : cX6_needs.data.toList.drop 0 = dktX6_needs_0 := by decide +kernel
theorem dX6_needs_0 : decode cX6_needs 0 = .ok (.aload_n 0, 1) := dk_42 (dk_at dksX6_needs_0 0 rfl rfl)
theorem dX6_needs_1 : decode cX6_needs 1 = .ok (.aload_n 1, 1) := dk_43 (dk_at dksX6_needs_0 1 rfl rfl)
theorem dX6_needs_2 : decode cX6_needs 2 = .ok (.invokevirtual 120, 3) := dk_182 0 120 (dk_at dksX6_needs_0 2 rfl rfl)
theorem dX6_needs_5 : decode cX6_needs 5 = .ok (.ifCond .ne 8, 3) := dk_154 0 8 (dk_at dksX6_needs_0 5 rfl rfl)
theorem dX6_needs_8 : decode cX6_needs 8 = .ok (.aload_n 0, 1) := dk_42 (dk_at dksX6_needs_0 8 rfl rfl)
theorem dX6_needs_9 : decode cX6_needs 9 = .ok (.iconst 1, 1) := dk_4 (dk_at dksX6_needs_0 9 rfl rfl)
theorem dX6_needs_10 : decode cX6_needs 10 = .ok (.invokevirtual 124, 3) := dk_182 0 124 (dk_at dksX6_needs_0 10 rfl rfl)
theorem dX6_needs_13 : decode cX6_needs 13 = .ok (.aload_n 0, 1) := dk_42 (dk_at dksX6_needs_0 13 rfl rfl)
theorem dX6_needs_14 : decode cX6_needs 14 = .ok (.invokevirtual 117, 3) := dk_182 0 117 (dk_at dksX6_needs_0 14 rfl rfl)
theorem dX6_needs_17 : decode cX6_needs 17 = .ok (.return_, 1) := dk_177 (dk_at dksX6_needs_0 17 rfl rfl)
abbrev cX6_readWhole : ByteArray := prog_15_method_23_code
def yX6_readWhole : MethodName := ⟨RX6, "readWhole", "(II)I"⟩
def dkwX6_readWhole_0 : List UInt8 := [42, 27, 28, 182, 0, 132, 62, 42, 182, 0, 117, 29, 172]
abbrev dktX6_readWhole_0 : List UInt8 := dkwX6_readWhole_0 ++ []
theorem dksX6_readWhole_0 : cX6_readWhole.data.toList.drop 0 = dktX6_readWhole_0 := by decide +kernel
theorem dX6_readWhole_0 : decode cX6_readWhole 0 = .ok (.aload_n 0, 1) := dk_42 (dk_at dksX6_readWhole_0 0 rfl rfl)
theorem dX6_readWhole_1 : decode cX6_readWhole 1 = .ok (.iload_n 1, 1) := dk_27 (dk_at dksX6_readWhole_0 1 rfl rfl)
theorem dX6_readWhole_2 : decode cX6_readWhole 2 = .ok (.iload_n 2, 1) := dk_28 (dk_at dksX6_readWhole_0 2 rfl rfl)
theorem dX6_readWhole_3 : decode cX6_readWhole 3 = .ok (.invokevirtual 132, 3) := dk_182 0 132 (dk_at dksX6_readWhole_0 3 rfl rfl)
theorem dX6_readWhole_6 : decode cX6_readWhole 6 = .ok (.istore_n 3, 1) := dk_62 (dk_at dksX6_readWhole_0 6 rfl rfl)
theorem dX6_readWhole_7 : decode cX6_readWhole 7 = .ok (.aload_n 0, 1) := dk_42 (dk_at dksX6_readWhole_0 7 rfl rfl)
theorem dX6_readWhole_8 : decode cX6_readWhole 8 = .ok (.invokevirtual 117, 3) := dk_182 0 117 (dk_at dksX6_readWhole_0 8 rfl rfl)
theorem dX6_readWhole_11 : decode cX6_readWhole 11 = .ok (.iload_n 3, 1) := dk_29 (dk_at dksX6_readWhole_0 11 rfl rfl)
theorem dX6_readWhole_12 : decode cX6_readWhole 12 = .ok (.ireturn, 1) := dk_172 (dk_at dksX6_readWhole_0 12 rfl rfl)
abbrev cX6_wholeAt : ByteArray := prog_15_method_22_code
def yX6_wholeAt : MethodName := ⟨RX6, "wholeAt", "(II)I"⟩
def dkwX6_wholeAt_2 : List UInt8 := [180, 0, 104, 172]
abbrev dktX6_wholeAt_2 : List UInt8 := dkwX6_wholeAt_2 ++ []
def dkwX6_wholeAt_1 : List UInt8 := [184, 0, 128, 154, 0, 8, 42, 7, 182, 0, 124, 42, 180, 0, 81, 8, 160, 0, 7, 27, 167, 0, 7, 42]
abbrev dktX6_wholeAt_1 : List UInt8 := dkwX6_wholeAt_1 ++ dktX6_wholeAt_2
def dkwX6_wholeAt_0 : List UInt8 := [42, 180, 0, 81, 6, 159, 0, 11, 42, 4, 182, 0, 124, 167, 0, 20, 42, 180, 0, 104, 27, 28]
abbrev dktX6_wholeAt_0 : List UInt8 := dkwX6_wholeAt_0 ++ dktX6_wholeAt_1
theorem dksX6_wholeAt_0 : cX6_wholeAt.data.toList.drop 0 = dktX6_wholeAt_0 := by decide +kernel
theorem dksX6_wholeAt_1 : cX6_wholeAt.data.toList.drop 22 = dktX6_wholeAt_1 := dk_seg dksX6_wholeAt_0 22 rfl rfl
theorem dksX6_wholeAt_2 : cX6_wholeAt.data.toList.drop 46 = dktX6_wholeAt_2 := dk_seg dksX6_wholeAt_1 24 rfl rfl
theorem dX6_wholeAt_0 : decode cX6_wholeAt 0 = .ok (.aload_n 0, 1) := dk_42 (dk_at dksX6_wholeAt_0 0 rfl rfl)
theorem dX6_wholeAt_1 : decode cX6_wholeAt 1 = .ok (.getfield 81, 3) := dk_180 0 81 (dk_at dksX6_wholeAt_0 1 rfl rfl)
theorem dX6_wholeAt_4 : decode cX6_wholeAt 4 = .ok (.iconst 3, 1) := dk_6 (dk_at dksX6_wholeAt_0 4 rfl rfl)
theorem dX6_wholeAt_5 : decode cX6_wholeAt 5 = .ok (.if_icmp .eq 11, 3) := dk_159 0 11 (dk_at dksX6_wholeAt_0 5 rfl rfl)
theorem dX6_wholeAt_8 : decode cX6_wholeAt 8 = .ok (.aload_n 0, 1) := dk_42 (dk_at dksX6_wholeAt_0 8 rfl rfl)
theorem dX6_wholeAt_9 : decode cX6_wholeAt 9 = .ok (.iconst 1, 1) := dk_4 (dk_at dksX6_wholeAt_0 9 rfl rfl)
theorem dX6_wholeAt_10 : decode cX6_wholeAt 10 = .ok (.invokevirtual 124, 3) := dk_182 0 124 (dk_at dksX6_wholeAt_0 10 rfl rfl)
theorem dX6_wholeAt_13 : decode cX6_wholeAt 13 = .ok (.goto 20, 3) := dk_167 0 20 (dk_at dksX6_wholeAt_0 13 rfl rfl)
theorem dX6_wholeAt_16 : decode cX6_wholeAt 16 = .ok (.aload_n 0, 1) := dk_42 (dk_at dksX6_wholeAt_0 16 rfl rfl)
theorem dX6_wholeAt_17 : decode cX6_wholeAt 17 = .ok (.getfield 104, 3) := dk_180 0 104 (dk_at dksX6_wholeAt_0 17 rfl rfl)
theorem dX6_wholeAt_20 : decode cX6_wholeAt 20 = .ok (.iload_n 1, 1) := dk_27 (dk_at dksX6_wholeAt_0 20 rfl rfl)
theorem dX6_wholeAt_21 : decode cX6_wholeAt 21 = .ok (.iload_n 2, 1) := dk_28 (dk_at dksX6_wholeAt_0 21 rfl rfl)
theorem dX6_wholeAt_22 : decode cX6_wholeAt 22 = .ok (.invokestatic 128, 3) := dk_184 0 128 (dk_at dksX6_wholeAt_1 0 rfl rfl)
theorem dX6_wholeAt_25 : decode cX6_wholeAt 25 = .ok (.ifCond .ne 8, 3) := dk_154 0 8 (dk_at dksX6_wholeAt_1 3 rfl rfl)
theorem dX6_wholeAt_28 : decode cX6_wholeAt 28 = .ok (.aload_n 0, 1) := dk_42 (dk_at dksX6_wholeAt_1 6 rfl rfl)
theorem dX6_wholeAt_29 : decode cX6_wholeAt 29 = .ok (.iconst 4, 1) := dk_7 (dk_at dksX6_wholeAt_1 7 rfl rfl)
theorem dX6_wholeAt_30 : decode cX6_wholeAt 30 = .ok (.invokevirtual 124, 3) := dk_182 0 124 (dk_at dksX6_wholeAt_1 8 rfl rfl)
theorem dX6_wholeAt_33 : decode cX6_wholeAt 33 = .ok (.aload_n 0, 1) := dk_42 (dk_at dksX6_wholeAt_1 11 rfl rfl)
theorem dX6_wholeAt_34 : decode cX6_wholeAt 34 = .ok (.getfield 81, 3) := dk_180 0 81 (dk_at dksX6_wholeAt_1 12 rfl rfl)
theorem dX6_wholeAt_37 : decode cX6_wholeAt 37 = .ok (.iconst 5, 1) := dk_8 (dk_at dksX6_wholeAt_1 15 rfl rfl)
theorem dX6_wholeAt_38 : decode cX6_wholeAt 38 = .ok (.if_icmp .ne 7, 3) := dk_160 0 7 (dk_at dksX6_wholeAt_1 16 rfl rfl)
theorem dX6_wholeAt_41 : decode cX6_wholeAt 41 = .ok (.iload_n 1, 1) := dk_27 (dk_at dksX6_wholeAt_1 19 rfl rfl)
theorem dX6_wholeAt_42 : decode cX6_wholeAt 42 = .ok (.goto 7, 3) := dk_167 0 7 (dk_at dksX6_wholeAt_1 20 rfl rfl)
theorem dX6_wholeAt_45 : decode cX6_wholeAt 45 = .ok (.aload_n 0, 1) := dk_42 (dk_at dksX6_wholeAt_1 23 rfl rfl)
theorem dX6_wholeAt_46 : decode cX6_wholeAt 46 = .ok (.getfield 104, 3) := dk_180 0 104 (dk_at dksX6_wholeAt_2 0 rfl rfl)
theorem dX6_wholeAt_49 : decode cX6_wholeAt 49 = .ok (.ireturn, 1) := dk_172 (dk_at dksX6_wholeAt_2 3 rfl rfl)
abbrev cX6_in : ByteArray := prog_15_method_8_code
def yX6_in : MethodName := ⟨RX6, "in", "(III)Z"⟩
def dkwX6_in_0 : List UInt8 := [26, 27, 161, 0, 12, 26, 28, 163, 0, 7, 4, 167, 0, 4, 3, 172]
abbrev dktX6_in_0 : List UInt8 := dkwX6_in_0 ++ []
theorem dksX6_in_0 : cX6_in.data.toList.drop 0 = dktX6_in_0 := by decide +kernel
theorem dX6_in_0 : decode cX6_in 0 = .ok (.iload_n 0, 1) := dk_26 (dk_at dksX6_in_0 0 rfl rfl)
theorem dX6_in_1 : decode cX6_in 1 = .ok (.iload_n 1, 1) := dk_27 (dk_at dksX6_in_0 1 rfl rfl)
theorem dX6_in_2 : decode cX6_in 2 = .ok (.if_icmp .lt 12, 3) := dk_161 0 12 (dk_at dksX6_in_0 2 rfl rfl)
theorem dX6_in_5 : decode cX6_in 5 = .ok (.iload_n 0, 1) := dk_26 (dk_at dksX6_in_0 5 rfl rfl)
theorem dX6_in_6 : decode cX6_in 6 = .ok (.iload_n 2, 1) := dk_28 (dk_at dksX6_in_0 6 rfl rfl)
theorem dX6_in_7 : decode cX6_in 7 = .ok (.if_icmp .gt 7, 3) := dk_163 0 7 (dk_at dksX6_in_0 7 rfl rfl)
theorem dX6_in_10 : decode cX6_in 10 = .ok (.iconst 1, 1) := dk_4 (dk_at dksX6_in_0 10 rfl rfl)
theorem dX6_in_11 : decode cX6_in 11 = .ok (.goto 4, 3) := dk_167 0 4 (dk_at dksX6_in_0 11 rfl rfl)
theorem dX6_in_14 : decode cX6_in 14 = .ok (.iconst 0, 1) := dk_3 (dk_at dksX6_in_0 14 rfl rfl)
theorem dX6_in_15 : decode cX6_in 15 = .ok (.ireturn, 1) := dk_172 (dk_at dksX6_in_0 15 rfl rfl)
abbrev cX6_readPerson : ByteArray := prog_15_method_34_code
def yX6_readPerson : MethodName := ⟨RX6, "readPerson", "()V"⟩
def dkwX6_readPerson_4 : List UInt8 := [42, 180, 0, 155, 180, 0, 193, 29, 79, 42, 180, 0, 155, 89, 180, 0, 193, 4, 96, 181, 0, 193, 177]
abbrev dktX6_readPerson_4 : List UInt8 := dkwX6_readPerson_4 ++ []
def dkwX6_readPerson_3 : List UInt8 := [160, 0, 4, 177, 42, 31, 3, 42, 180, 0, 155, 180, 0, 193, 182, 0, 236, 42, 180, 0, 155, 180, 0, 239]
abbrev dktX6_readPerson_3 : List UInt8 := dkwX6_readPerson_3 ++ dktX6_readPerson_4
def dkwX6_readPerson_2 : List UInt8 := [180, 0, 155, 29, 182, 0, 233, 153, 0, 8, 42, 6, 182, 0, 124, 42, 182, 0, 117, 42, 180, 0, 81, 8]
abbrev dktX6_readPerson_2 : List UInt8 := dkwX6_readPerson_2 ++ dktX6_readPerson_3
def dkwX6_readPerson_1 : List UInt8 := [42, 3, 42, 180, 0, 155, 180, 0, 159, 4, 100, 182, 0, 132, 62, 42, 180, 0, 81, 8, 159, 0, 19, 42]
abbrev dktX6_readPerson_1 : List UInt8 := dkwX6_readPerson_1 ++ dktX6_readPerson_2
def dkwX6_readPerson_0 : List UInt8 := [42, 42, 180, 0, 155, 180, 0, 193, 16, 6, 182, 0, 223, 42, 182, 0, 227, 64, 42, 18, 231, 182, 0, 136]
abbrev dktX6_readPerson_0 : List UInt8 := dkwX6_readPerson_0 ++ dktX6_readPerson_1
theorem dksX6_readPerson_0 : cX6_readPerson.data.toList.drop 0 = dktX6_readPerson_0 := by decide +kernel
theorem dksX6_readPerson_1 : cX6_readPerson.data.toList.drop 24 = dktX6_readPerson_1 := dk_seg dksX6_readPerson_0 24 rfl rfl
theorem dksX6_readPerson_2 : cX6_readPerson.data.toList.drop 48 = dktX6_readPerson_2 := dk_seg dksX6_readPerson_1 24 rfl rfl
theorem dksX6_readPerson_3 : cX6_readPerson.data.toList.drop 72 = dktX6_readPerson_3 := dk_seg dksX6_readPerson_2 24 rfl rfl
theorem dksX6_readPerson_4 : cX6_readPerson.data.toList.drop 96 = dktX6_readPerson_4 := dk_seg dksX6_readPerson_3 24 rfl rfl
theorem dX6_readPerson_0 : decode cX6_readPerson 0 = .ok (.aload_n 0, 1) := dk_42 (dk_at dksX6_readPerson_0 0 rfl rfl)
theorem dX6_readPerson_1 : decode cX6_readPerson 1 = .ok (.aload_n 0, 1) := dk_42 (dk_at dksX6_readPerson_0 1 rfl rfl)
theorem dX6_readPerson_2 : decode cX6_readPerson 2 = .ok (.getfield 155, 3) := dk_180 0 155 (dk_at dksX6_readPerson_0 2 rfl rfl)
theorem dX6_readPerson_5 : decode cX6_readPerson 5 = .ok (.getfield 193, 3) := dk_180 0 193 (dk_at dksX6_readPerson_0 5 rfl rfl)
theorem dX6_readPerson_8 : decode cX6_readPerson 8 = .ok (.bipush 6, 2) := dk_16 6 (dk_at dksX6_readPerson_0 8 rfl rfl)
theorem dX6_readPerson_10 : decode cX6_readPerson 10 = .ok (.invokevirtual 223, 3) := dk_182 0 223 (dk_at dksX6_readPerson_0 10 rfl rfl)
theorem dX6_readPerson_13 : decode cX6_readPerson 13 = .ok (.aload_n 0, 1) := dk_42 (dk_at dksX6_readPerson_0 13 rfl rfl)
theorem dX6_readPerson_14 : decode cX6_readPerson 14 = .ok (.invokevirtual 227, 3) := dk_182 0 227 (dk_at dksX6_readPerson_0 14 rfl rfl)
theorem dX6_readPerson_17 : decode cX6_readPerson 17 = .ok (.lstore_n 1, 1) := dk_64 (dk_at dksX6_readPerson_0 17 rfl rfl)
theorem dX6_readPerson_18 : decode cX6_readPerson 18 = .ok (.aload_n 0, 1) := dk_42 (dk_at dksX6_readPerson_0 18 rfl rfl)
theorem dX6_readPerson_19 : decode cX6_readPerson 19 = .ok (.ldc 231, 2) := dk_18 231 (dk_at dksX6_readPerson_0 19 rfl rfl)
theorem dX6_readPerson_21 : decode cX6_readPerson 21 = .ok (.invokevirtual 136, 3) := dk_182 0 136 (dk_at dksX6_readPerson_0 21 rfl rfl)
theorem dX6_readPerson_24 : decode cX6_readPerson 24 = .ok (.aload_n 0, 1) := dk_42 (dk_at dksX6_readPerson_1 0 rfl rfl)
theorem dX6_readPerson_25 : decode cX6_readPerson 25 = .ok (.iconst 0, 1) := dk_3 (dk_at dksX6_readPerson_1 1 rfl rfl)
theorem dX6_readPerson_26 : decode cX6_readPerson 26 = .ok (.aload_n 0, 1) := dk_42 (dk_at dksX6_readPerson_1 2 rfl rfl)
theorem dX6_readPerson_27 : decode cX6_readPerson 27 = .ok (.getfield 155, 3) := dk_180 0 155 (dk_at dksX6_readPerson_1 3 rfl rfl)
theorem dX6_readPerson_30 : decode cX6_readPerson 30 = .ok (.getfield 159, 3) := dk_180 0 159 (dk_at dksX6_readPerson_1 6 rfl rfl)
theorem dX6_readPerson_33 : decode cX6_readPerson 33 = .ok (.iconst 1, 1) := dk_4 (dk_at dksX6_readPerson_1 9 rfl rfl)
theorem dX6_readPerson_34 : decode cX6_readPerson 34 = .ok (.isub, 1) := dk_100 (dk_at dksX6_readPerson_1 10 rfl rfl)
theorem dX6_readPerson_35 : decode cX6_readPerson 35 = .ok (.invokevirtual 132, 3) := dk_182 0 132 (dk_at dksX6_readPerson_1 11 rfl rfl)
theorem dX6_readPerson_38 : decode cX6_readPerson 38 = .ok (.istore_n 3, 1) := dk_62 (dk_at dksX6_readPerson_1 14 rfl rfl)
theorem dX6_readPerson_39 : decode cX6_readPerson 39 = .ok (.aload_n 0, 1) := dk_42 (dk_at dksX6_readPerson_1 15 rfl rfl)
theorem dX6_readPerson_40 : decode cX6_readPerson 40 = .ok (.getfield 81, 3) := dk_180 0 81 (dk_at dksX6_readPerson_1 16 rfl rfl)
theorem dX6_readPerson_43 : decode cX6_readPerson 43 = .ok (.iconst 5, 1) := dk_8 (dk_at dksX6_readPerson_1 19 rfl rfl)
theorem dX6_readPerson_44 : decode cX6_readPerson 44 = .ok (.if_icmp .eq 19, 3) := dk_159 0 19 (dk_at dksX6_readPerson_1 20 rfl rfl)
theorem dX6_readPerson_47 : decode cX6_readPerson 47 = .ok (.aload_n 0, 1) := dk_42 (dk_at dksX6_readPerson_1 23 rfl rfl)
theorem dX6_readPerson_48 : decode cX6_readPerson 48 = .ok (.getfield 155, 3) := dk_180 0 155 (dk_at dksX6_readPerson_2 0 rfl rfl)
theorem dX6_readPerson_51 : decode cX6_readPerson 51 = .ok (.iload_n 3, 1) := dk_29 (dk_at dksX6_readPerson_2 3 rfl rfl)
theorem dX6_readPerson_52 : decode cX6_readPerson 52 = .ok (.invokevirtual 233, 3) := dk_182 0 233 (dk_at dksX6_readPerson_2 4 rfl rfl)
theorem dX6_readPerson_55 : decode cX6_readPerson 55 = .ok (.ifCond .eq 8, 3) := dk_153 0 8 (dk_at dksX6_readPerson_2 7 rfl rfl)
theorem dX6_readPerson_58 : decode cX6_readPerson 58 = .ok (.aload_n 0, 1) := dk_42 (dk_at dksX6_readPerson_2 10 rfl rfl)
theorem dX6_readPerson_59 : decode cX6_readPerson 59 = .ok (.iconst 3, 1) := dk_6 (dk_at dksX6_readPerson_2 11 rfl rfl)
theorem dX6_readPerson_60 : decode cX6_readPerson 60 = .ok (.invokevirtual 124, 3) := dk_182 0 124 (dk_at dksX6_readPerson_2 12 rfl rfl)
theorem dX6_readPerson_63 : decode cX6_readPerson 63 = .ok (.aload_n 0, 1) := dk_42 (dk_at dksX6_readPerson_2 15 rfl rfl)
theorem dX6_readPerson_64 : decode cX6_readPerson 64 = .ok (.invokevirtual 117, 3) := dk_182 0 117 (dk_at dksX6_readPerson_2 16 rfl rfl)
theorem dX6_readPerson_67 : decode cX6_readPerson 67 = .ok (.aload_n 0, 1) := dk_42 (dk_at dksX6_readPerson_2 19 rfl rfl)
theorem dX6_readPerson_68 : decode cX6_readPerson 68 = .ok (.getfield 81, 3) := dk_180 0 81 (dk_at dksX6_readPerson_2 20 rfl rfl)
theorem dX6_readPerson_71 : decode cX6_readPerson 71 = .ok (.iconst 5, 1) := dk_8 (dk_at dksX6_readPerson_2 23 rfl rfl)
theorem dX6_readPerson_72 : decode cX6_readPerson 72 = .ok (.if_icmp .ne 4, 3) := dk_160 0 4 (dk_at dksX6_readPerson_3 0 rfl rfl)
theorem dX6_readPerson_75 : decode cX6_readPerson 75 = .ok (.return_, 1) := dk_177 (dk_at dksX6_readPerson_3 3 rfl rfl)
theorem dX6_readPerson_76 : decode cX6_readPerson 76 = .ok (.aload_n 0, 1) := dk_42 (dk_at dksX6_readPerson_3 4 rfl rfl)
theorem dX6_readPerson_77 : decode cX6_readPerson 77 = .ok (.lload_n 1, 1) := dk_31 (dk_at dksX6_readPerson_3 5 rfl rfl)
theorem dX6_readPerson_78 : decode cX6_readPerson 78 = .ok (.iconst 0, 1) := dk_3 (dk_at dksX6_readPerson_3 6 rfl rfl)
theorem dX6_readPerson_79 : decode cX6_readPerson 79 = .ok (.aload_n 0, 1) := dk_42 (dk_at dksX6_readPerson_3 7 rfl rfl)
theorem dX6_readPerson_80 : decode cX6_readPerson 80 = .ok (.getfield 155, 3) := dk_180 0 155 (dk_at dksX6_readPerson_3 8 rfl rfl)
theorem dX6_readPerson_83 : decode cX6_readPerson 83 = .ok (.getfield 193, 3) := dk_180 0 193 (dk_at dksX6_readPerson_3 11 rfl rfl)
theorem dX6_readPerson_86 : decode cX6_readPerson 86 = .ok (.invokevirtual 236, 3) := dk_182 0 236 (dk_at dksX6_readPerson_3 14 rfl rfl)
theorem dX6_readPerson_89 : decode cX6_readPerson 89 = .ok (.aload_n 0, 1) := dk_42 (dk_at dksX6_readPerson_3 17 rfl rfl)
theorem dX6_readPerson_90 : decode cX6_readPerson 90 = .ok (.getfield 155, 3) := dk_180 0 155 (dk_at dksX6_readPerson_3 18 rfl rfl)
theorem dX6_readPerson_93 : decode cX6_readPerson 93 = .ok (.getfield 239, 3) := dk_180 0 239 (dk_at dksX6_readPerson_3 21 rfl rfl)
theorem dX6_readPerson_96 : decode cX6_readPerson 96 = .ok (.aload_n 0, 1) := dk_42 (dk_at dksX6_readPerson_4 0 rfl rfl)
theorem dX6_readPerson_97 : decode cX6_readPerson 97 = .ok (.getfield 155, 3) := dk_180 0 155 (dk_at dksX6_readPerson_4 1 rfl rfl)
theorem dX6_readPerson_100 : decode cX6_readPerson 100 = .ok (.getfield 193, 3) := dk_180 0 193 (dk_at dksX6_readPerson_4 4 rfl rfl)
theorem dX6_readPerson_103 : decode cX6_readPerson 103 = .ok (.iload_n 3, 1) := dk_29 (dk_at dksX6_readPerson_4 7 rfl rfl)
theorem dX6_readPerson_104 : decode cX6_readPerson 104 = .ok (.iastore, 1) := dk_79 (dk_at dksX6_readPerson_4 8 rfl rfl)
theorem dX6_readPerson_105 : decode cX6_readPerson 105 = .ok (.aload_n 0, 1) := dk_42 (dk_at dksX6_readPerson_4 9 rfl rfl)
theorem dX6_readPerson_106 : decode cX6_readPerson 106 = .ok (.getfield 155, 3) := dk_180 0 155 (dk_at dksX6_readPerson_4 10 rfl rfl)
theorem dX6_readPerson_109 : decode cX6_readPerson 109 = .ok (.dup, 1) := dk_89 (dk_at dksX6_readPerson_4 13 rfl rfl)
theorem dX6_readPerson_110 : decode cX6_readPerson 110 = .ok (.getfield 193, 3) := dk_180 0 193 (dk_at dksX6_readPerson_4 14 rfl rfl)
theorem dX6_readPerson_113 : decode cX6_readPerson 113 = .ok (.iconst 1, 1) := dk_4 (dk_at dksX6_readPerson_4 17 rfl rfl)
theorem dX6_readPerson_114 : decode cX6_readPerson 114 = .ok (.iadd, 1) := dk_96 (dk_at dksX6_readPerson_4 18 rfl rfl)
theorem dX6_readPerson_115 : decode cX6_readPerson 115 = .ok (.putfield 193, 3) := dk_181 0 193 (dk_at dksX6_readPerson_4 19 rfl rfl)
theorem dX6_readPerson_118 : decode cX6_readPerson 118 = .ok (.return_, 1) := dk_177 (dk_at dksX6_readPerson_4 22 rfl rfl)
abbrev cX6_lineBegins : ByteArray := prog_15_method_26_code
def yX6_lineBegins : MethodName := ⟨RX6, "lineBegins", "(II)V"⟩
def dkwX6_lineBegins_1 : List UInt8 := [182, 0, 124, 42, 182, 0, 117, 177]
abbrev dktX6_lineBegins_1 : List UInt8 := dkwX6_lineBegins_1 ++ []
def dkwX6_lineBegins_0 : List UInt8 := [27, 28, 160, 0, 8, 42, 8, 182, 0, 124, 42, 180, 0, 155, 180, 0, 159, 154, 0, 9, 42, 16, 6]
abbrev dktX6_lineBegins_0 : List UInt8 := dkwX6_lineBegins_0 ++ dktX6_lineBegins_1
theorem dksX6_lineBegins_0 : cX6_lineBegins.data.toList.drop 0 = dktX6_lineBegins_0 := by decide +kernel
theorem dksX6_lineBegins_1 : cX6_lineBegins.data.toList.drop 23 = dktX6_lineBegins_1 := dk_seg dksX6_lineBegins_0 23 rfl rfl
theorem dX6_lineBegins_0 : decode cX6_lineBegins 0 = .ok (.iload_n 1, 1) := dk_27 (dk_at dksX6_lineBegins_0 0 rfl rfl)
theorem dX6_lineBegins_1 : decode cX6_lineBegins 1 = .ok (.iload_n 2, 1) := dk_28 (dk_at dksX6_lineBegins_0 1 rfl rfl)
theorem dX6_lineBegins_2 : decode cX6_lineBegins 2 = .ok (.if_icmp .ne 8, 3) := dk_160 0 8 (dk_at dksX6_lineBegins_0 2 rfl rfl)
theorem dX6_lineBegins_5 : decode cX6_lineBegins 5 = .ok (.aload_n 0, 1) := dk_42 (dk_at dksX6_lineBegins_0 5 rfl rfl)
theorem dX6_lineBegins_6 : decode cX6_lineBegins 6 = .ok (.iconst 5, 1) := dk_8 (dk_at dksX6_lineBegins_0 6 rfl rfl)
theorem dX6_lineBegins_7 : decode cX6_lineBegins 7 = .ok (.invokevirtual 124, 3) := dk_182 0 124 (dk_at dksX6_lineBegins_0 7 rfl rfl)
theorem dX6_lineBegins_10 : decode cX6_lineBegins 10 = .ok (.aload_n 0, 1) := dk_42 (dk_at dksX6_lineBegins_0 10 rfl rfl)
theorem dX6_lineBegins_11 : decode cX6_lineBegins 11 = .ok (.getfield 155, 3) := dk_180 0 155 (dk_at dksX6_lineBegins_0 11 rfl rfl)
theorem dX6_lineBegins_14 : decode cX6_lineBegins 14 = .ok (.getfield 159, 3) := dk_180 0 159 (dk_at dksX6_lineBegins_0 14 rfl rfl)
theorem dX6_lineBegins_17 : decode cX6_lineBegins 17 = .ok (.ifCond .ne 9, 3) := dk_154 0 9 (dk_at dksX6_lineBegins_0 17 rfl rfl)
theorem dX6_lineBegins_20 : decode cX6_lineBegins 20 = .ok (.aload_n 0, 1) := dk_42 (dk_at dksX6_lineBegins_0 20 rfl rfl)
theorem dX6_lineBegins_21 : decode cX6_lineBegins 21 = .ok (.bipush 6, 2) := dk_16 6 (dk_at dksX6_lineBegins_0 21 rfl rfl)
theorem dX6_lineBegins_23 : decode cX6_lineBegins 23 = .ok (.invokevirtual 124, 3) := dk_182 0 124 (dk_at dksX6_lineBegins_1 0 rfl rfl)
theorem dX6_lineBegins_26 : decode cX6_lineBegins 26 = .ok (.aload_n 0, 1) := dk_42 (dk_at dksX6_lineBegins_1 3 rfl rfl)
theorem dX6_lineBegins_27 : decode cX6_lineBegins 27 = .ok (.invokevirtual 117, 3) := dk_182 0 117 (dk_at dksX6_lineBegins_1 4 rfl rfl)
theorem dX6_lineBegins_30 : decode cX6_lineBegins 30 = .ok (.return_, 1) := dk_177 (dk_at dksX6_lineBegins_1 7 rfl rfl)
abbrev cX6_readFresh : ByteArray := prog_15_method_27_code
def yX6_readFresh : MethodName := ⟨RX6, "readFresh", "()J"⟩
def dkwX6_readFresh_1 : List UInt8 := [159, 0, 8, 42, 6, 182, 0, 124, 42, 180, 0, 97, 64, 42, 182, 0, 117, 31, 173]
abbrev dktX6_readFresh_1 : List UInt8 := dkwX6_readFresh_1 ++ []
def dkwX6_readFresh_0 : List UInt8 := [42, 182, 0, 164, 154, 0, 8, 42, 4, 182, 0, 124, 42, 180, 0, 155, 42, 180, 0, 97, 182, 0, 168, 2]
abbrev dktX6_readFresh_0 : List UInt8 := dkwX6_readFresh_0 ++ dktX6_readFresh_1
theorem dksX6_readFresh_0 : cX6_readFresh.data.toList.drop 0 = dktX6_readFresh_0 := by decide +kernel
theorem dksX6_readFresh_1 : cX6_readFresh.data.toList.drop 24 = dktX6_readFresh_1 := dk_seg dksX6_readFresh_0 24 rfl rfl
theorem dX6_readFresh_0 : decode cX6_readFresh 0 = .ok (.aload_n 0, 1) := dk_42 (dk_at dksX6_readFresh_0 0 rfl rfl)
theorem dX6_readFresh_1 : decode cX6_readFresh 1 = .ok (.invokevirtual 164, 3) := dk_182 0 164 (dk_at dksX6_readFresh_0 1 rfl rfl)
theorem dX6_readFresh_4 : decode cX6_readFresh 4 = .ok (.ifCond .ne 8, 3) := dk_154 0 8 (dk_at dksX6_readFresh_0 4 rfl rfl)
theorem dX6_readFresh_7 : decode cX6_readFresh 7 = .ok (.aload_n 0, 1) := dk_42 (dk_at dksX6_readFresh_0 7 rfl rfl)
theorem dX6_readFresh_8 : decode cX6_readFresh 8 = .ok (.iconst 1, 1) := dk_4 (dk_at dksX6_readFresh_0 8 rfl rfl)
theorem dX6_readFresh_9 : decode cX6_readFresh 9 = .ok (.invokevirtual 124, 3) := dk_182 0 124 (dk_at dksX6_readFresh_0 9 rfl rfl)
theorem dX6_readFresh_12 : decode cX6_readFresh 12 = .ok (.aload_n 0, 1) := dk_42 (dk_at dksX6_readFresh_0 12 rfl rfl)
theorem dX6_readFresh_13 : decode cX6_readFresh 13 = .ok (.getfield 155, 3) := dk_180 0 155 (dk_at dksX6_readFresh_0 13 rfl rfl)
theorem dX6_readFresh_16 : decode cX6_readFresh 16 = .ok (.aload_n 0, 1) := dk_42 (dk_at dksX6_readFresh_0 16 rfl rfl)
theorem dX6_readFresh_17 : decode cX6_readFresh 17 = .ok (.getfield 97, 3) := dk_180 0 97 (dk_at dksX6_readFresh_0 17 rfl rfl)
theorem dX6_readFresh_20 : decode cX6_readFresh 20 = .ok (.invokevirtual 168, 3) := dk_182 0 168 (dk_at dksX6_readFresh_0 20 rfl rfl)
theorem dX6_readFresh_23 : decode cX6_readFresh 23 = .ok (.iconst (-1), 1) := dk_2 (dk_at dksX6_readFresh_0 23 rfl rfl)
theorem dX6_readFresh_24 : decode cX6_readFresh 24 = .ok (.if_icmp .eq 8, 3) := dk_159 0 8 (dk_at dksX6_readFresh_1 0 rfl rfl)
theorem dX6_readFresh_27 : decode cX6_readFresh 27 = .ok (.aload_n 0, 1) := dk_42 (dk_at dksX6_readFresh_1 3 rfl rfl)
theorem dX6_readFresh_28 : decode cX6_readFresh 28 = .ok (.iconst 3, 1) := dk_6 (dk_at dksX6_readFresh_1 4 rfl rfl)
theorem dX6_readFresh_29 : decode cX6_readFresh 29 = .ok (.invokevirtual 124, 3) := dk_182 0 124 (dk_at dksX6_readFresh_1 5 rfl rfl)
theorem dX6_readFresh_32 : decode cX6_readFresh 32 = .ok (.aload_n 0, 1) := dk_42 (dk_at dksX6_readFresh_1 8 rfl rfl)
theorem dX6_readFresh_33 : decode cX6_readFresh 33 = .ok (.getfield 97, 3) := dk_180 0 97 (dk_at dksX6_readFresh_1 9 rfl rfl)
theorem dX6_readFresh_36 : decode cX6_readFresh 36 = .ok (.lstore_n 1, 1) := dk_64 (dk_at dksX6_readFresh_1 12 rfl rfl)
theorem dX6_readFresh_37 : decode cX6_readFresh 37 = .ok (.aload_n 0, 1) := dk_42 (dk_at dksX6_readFresh_1 13 rfl rfl)
theorem dX6_readFresh_38 : decode cX6_readFresh 38 = .ok (.invokevirtual 117, 3) := dk_182 0 117 (dk_at dksX6_readFresh_1 14 rfl rfl)
theorem dX6_readFresh_41 : decode cX6_readFresh 41 = .ok (.lload_n 1, 1) := dk_31 (dk_at dksX6_readFresh_1 17 rfl rfl)
theorem dX6_readFresh_42 : decode cX6_readFresh 42 = .ok (.lreturn, 1) := dk_173 (dk_at dksX6_readFresh_1 18 rfl rfl)
abbrev cX6_isName : ByteArray := prog_15_method_25_code
def yX6_isName : MethodName := ⟨RX6, "isName", "()Z"⟩
def dkwX6_isName_2 : List UInt8 := [18, 151, 182, 0, 120, 154, 0, 16, 42, 18, 153, 182, 0, 120, 154, 0, 7, 4, 167, 0, 4, 3, 172]
abbrev dktX6_isName_2 : List UInt8 := dkwX6_isName_2 ++ []
def dkwX6_isName_1 : List UInt8 := [154, 0, 12, 42, 18, 147, 182, 0, 120, 153, 0, 5, 3, 172, 42, 18, 149, 182, 0, 120, 154, 0, 25, 42]
abbrev dktX6_isName_1 : List UInt8 := dkwX6_isName_1 ++ dktX6_isName_2
def dkwX6_isName_0 : List UInt8 := [42, 180, 0, 81, 5, 160, 0, 30, 42, 18, 143, 182, 0, 120, 154, 0, 21, 42, 18, 145, 182, 0, 120]
abbrev dktX6_isName_0 : List UInt8 := dkwX6_isName_0 ++ dktX6_isName_1
theorem dksX6_isName_0 : cX6_isName.data.toList.drop 0 = dktX6_isName_0 := by decide +kernel
theorem dksX6_isName_1 : cX6_isName.data.toList.drop 23 = dktX6_isName_1 := dk_seg dksX6_isName_0 23 rfl rfl
theorem dksX6_isName_2 : cX6_isName.data.toList.drop 47 = dktX6_isName_2 := dk_seg dksX6_isName_1 24 rfl rfl
theorem dX6_isName_0 : decode cX6_isName 0 = .ok (.aload_n 0, 1) := dk_42 (dk_at dksX6_isName_0 0 rfl rfl)
theorem dX6_isName_1 : decode cX6_isName 1 = .ok (.getfield 81, 3) := dk_180 0 81 (dk_at dksX6_isName_0 1 rfl rfl)
theorem dX6_isName_4 : decode cX6_isName 4 = .ok (.iconst 2, 1) := dk_5 (dk_at dksX6_isName_0 4 rfl rfl)
theorem dX6_isName_5 : decode cX6_isName 5 = .ok (.if_icmp .ne 30, 3) := dk_160 0 30 (dk_at dksX6_isName_0 5 rfl rfl)
theorem dX6_isName_8 : decode cX6_isName 8 = .ok (.aload_n 0, 1) := dk_42 (dk_at dksX6_isName_0 8 rfl rfl)
theorem dX6_isName_9 : decode cX6_isName 9 = .ok (.ldc 143, 2) := dk_18 143 (dk_at dksX6_isName_0 9 rfl rfl)
theorem dX6_isName_11 : decode cX6_isName 11 = .ok (.invokevirtual 120, 3) := dk_182 0 120 (dk_at dksX6_isName_0 11 rfl rfl)
theorem dX6_isName_14 : decode cX6_isName 14 = .ok (.ifCond .ne 21, 3) := dk_154 0 21 (dk_at dksX6_isName_0 14 rfl rfl)
theorem dX6_isName_17 : decode cX6_isName 17 = .ok (.aload_n 0, 1) := dk_42 (dk_at dksX6_isName_0 17 rfl rfl)
theorem dX6_isName_18 : decode cX6_isName 18 = .ok (.ldc 145, 2) := dk_18 145 (dk_at dksX6_isName_0 18 rfl rfl)
theorem dX6_isName_20 : decode cX6_isName 20 = .ok (.invokevirtual 120, 3) := dk_182 0 120 (dk_at dksX6_isName_0 20 rfl rfl)
theorem dX6_isName_23 : decode cX6_isName 23 = .ok (.ifCond .ne 12, 3) := dk_154 0 12 (dk_at dksX6_isName_1 0 rfl rfl)
theorem dX6_isName_26 : decode cX6_isName 26 = .ok (.aload_n 0, 1) := dk_42 (dk_at dksX6_isName_1 3 rfl rfl)
theorem dX6_isName_27 : decode cX6_isName 27 = .ok (.ldc 147, 2) := dk_18 147 (dk_at dksX6_isName_1 4 rfl rfl)
theorem dX6_isName_29 : decode cX6_isName 29 = .ok (.invokevirtual 120, 3) := dk_182 0 120 (dk_at dksX6_isName_1 6 rfl rfl)
theorem dX6_isName_32 : decode cX6_isName 32 = .ok (.ifCond .eq 5, 3) := dk_153 0 5 (dk_at dksX6_isName_1 9 rfl rfl)
theorem dX6_isName_35 : decode cX6_isName 35 = .ok (.iconst 0, 1) := dk_3 (dk_at dksX6_isName_1 12 rfl rfl)
theorem dX6_isName_36 : decode cX6_isName 36 = .ok (.ireturn, 1) := dk_172 (dk_at dksX6_isName_1 13 rfl rfl)
theorem dX6_isName_37 : decode cX6_isName 37 = .ok (.aload_n 0, 1) := dk_42 (dk_at dksX6_isName_1 14 rfl rfl)
theorem dX6_isName_38 : decode cX6_isName 38 = .ok (.ldc 149, 2) := dk_18 149 (dk_at dksX6_isName_1 15 rfl rfl)
theorem dX6_isName_40 : decode cX6_isName 40 = .ok (.invokevirtual 120, 3) := dk_182 0 120 (dk_at dksX6_isName_1 17 rfl rfl)
theorem dX6_isName_43 : decode cX6_isName 43 = .ok (.ifCond .ne 25, 3) := dk_154 0 25 (dk_at dksX6_isName_1 20 rfl rfl)
theorem dX6_isName_46 : decode cX6_isName 46 = .ok (.aload_n 0, 1) := dk_42 (dk_at dksX6_isName_1 23 rfl rfl)
theorem dX6_isName_47 : decode cX6_isName 47 = .ok (.ldc 151, 2) := dk_18 151 (dk_at dksX6_isName_2 0 rfl rfl)
theorem dX6_isName_49 : decode cX6_isName 49 = .ok (.invokevirtual 120, 3) := dk_182 0 120 (dk_at dksX6_isName_2 2 rfl rfl)
theorem dX6_isName_52 : decode cX6_isName 52 = .ok (.ifCond .ne 16, 3) := dk_154 0 16 (dk_at dksX6_isName_2 5 rfl rfl)
theorem dX6_isName_55 : decode cX6_isName 55 = .ok (.aload_n 0, 1) := dk_42 (dk_at dksX6_isName_2 8 rfl rfl)
theorem dX6_isName_56 : decode cX6_isName 56 = .ok (.ldc 153, 2) := dk_18 153 (dk_at dksX6_isName_2 9 rfl rfl)
theorem dX6_isName_58 : decode cX6_isName 58 = .ok (.invokevirtual 120, 3) := dk_182 0 120 (dk_at dksX6_isName_2 11 rfl rfl)
theorem dX6_isName_61 : decode cX6_isName 61 = .ok (.ifCond .ne 7, 3) := dk_154 0 7 (dk_at dksX6_isName_2 14 rfl rfl)
theorem dX6_isName_64 : decode cX6_isName 64 = .ok (.iconst 1, 1) := dk_4 (dk_at dksX6_isName_2 17 rfl rfl)
theorem dX6_isName_65 : decode cX6_isName 65 = .ok (.goto 4, 3) := dk_167 0 4 (dk_at dksX6_isName_2 18 rfl rfl)
theorem dX6_isName_68 : decode cX6_isName 68 = .ok (.iconst 0, 1) := dk_3 (dk_at dksX6_isName_2 21 rfl rfl)
theorem dX6_isName_69 : decode cX6_isName 69 = .ok (.ireturn, 1) := dk_172 (dk_at dksX6_isName_2 22 rfl rfl)
abbrev cX6_names : ByteArray := prog_15_method_28_code
def yX6_names : MethodName := ⟨RX6, "names", "(JII)V"⟩
def dkwX6_names_2 : List UInt8 := [79, 42, 180, 0, 155, 89, 180, 0, 175, 4, 96, 181, 0, 175, 177]
abbrev dktX6_names_2 : List UInt8 := dkwX6_names_2 ++ []
def dkwX6_names_1 : List UInt8 := [180, 0, 155, 180, 0, 175, 29, 79, 42, 180, 0, 155, 180, 0, 181, 42, 180, 0, 155, 180, 0, 175, 21, 4]
abbrev dktX6_names_1 : List UInt8 := dkwX6_names_1 ++ dktX6_names_2
def dkwX6_names_0 : List UInt8 := [42, 180, 0, 155, 180, 0, 172, 42, 180, 0, 155, 180, 0, 175, 31, 80, 42, 180, 0, 155, 180, 0, 178, 42]
abbrev dktX6_names_0 : List UInt8 := dkwX6_names_0 ++ dktX6_names_1
theorem dksX6_names_0 : cX6_names.data.toList.drop 0 = dktX6_names_0 := by decide +kernel
theorem dksX6_names_1 : cX6_names.data.toList.drop 24 = dktX6_names_1 := dk_seg dksX6_names_0 24 rfl rfl
theorem dksX6_names_2 : cX6_names.data.toList.drop 48 = dktX6_names_2 := dk_seg dksX6_names_1 24 rfl rfl
theorem dX6_names_0 : decode cX6_names 0 = .ok (.aload_n 0, 1) := dk_42 (dk_at dksX6_names_0 0 rfl rfl)
theorem dX6_names_1 : decode cX6_names 1 = .ok (.getfield 155, 3) := dk_180 0 155 (dk_at dksX6_names_0 1 rfl rfl)
theorem dX6_names_4 : decode cX6_names 4 = .ok (.getfield 172, 3) := dk_180 0 172 (dk_at dksX6_names_0 4 rfl rfl)
theorem dX6_names_7 : decode cX6_names 7 = .ok (.aload_n 0, 1) := dk_42 (dk_at dksX6_names_0 7 rfl rfl)
theorem dX6_names_8 : decode cX6_names 8 = .ok (.getfield 155, 3) := dk_180 0 155 (dk_at dksX6_names_0 8 rfl rfl)
theorem dX6_names_11 : decode cX6_names 11 = .ok (.getfield 175, 3) := dk_180 0 175 (dk_at dksX6_names_0 11 rfl rfl)
theorem dX6_names_14 : decode cX6_names 14 = .ok (.lload_n 1, 1) := dk_31 (dk_at dksX6_names_0 14 rfl rfl)
theorem dX6_names_15 : decode cX6_names 15 = .ok (.lastore, 1) := dk_80 (dk_at dksX6_names_0 15 rfl rfl)
theorem dX6_names_16 : decode cX6_names 16 = .ok (.aload_n 0, 1) := dk_42 (dk_at dksX6_names_0 16 rfl rfl)
theorem dX6_names_17 : decode cX6_names 17 = .ok (.getfield 155, 3) := dk_180 0 155 (dk_at dksX6_names_0 17 rfl rfl)
theorem dX6_names_20 : decode cX6_names 20 = .ok (.getfield 178, 3) := dk_180 0 178 (dk_at dksX6_names_0 20 rfl rfl)
theorem dX6_names_23 : decode cX6_names 23 = .ok (.aload_n 0, 1) := dk_42 (dk_at dksX6_names_0 23 rfl rfl)
theorem dX6_names_24 : decode cX6_names 24 = .ok (.getfield 155, 3) := dk_180 0 155 (dk_at dksX6_names_1 0 rfl rfl)
theorem dX6_names_27 : decode cX6_names 27 = .ok (.getfield 175, 3) := dk_180 0 175 (dk_at dksX6_names_1 3 rfl rfl)
theorem dX6_names_30 : decode cX6_names 30 = .ok (.iload_n 3, 1) := dk_29 (dk_at dksX6_names_1 6 rfl rfl)
theorem dX6_names_31 : decode cX6_names 31 = .ok (.iastore, 1) := dk_79 (dk_at dksX6_names_1 7 rfl rfl)
theorem dX6_names_32 : decode cX6_names 32 = .ok (.aload_n 0, 1) := dk_42 (dk_at dksX6_names_1 8 rfl rfl)
theorem dX6_names_33 : decode cX6_names 33 = .ok (.getfield 155, 3) := dk_180 0 155 (dk_at dksX6_names_1 9 rfl rfl)
theorem dX6_names_36 : decode cX6_names 36 = .ok (.getfield 181, 3) := dk_180 0 181 (dk_at dksX6_names_1 12 rfl rfl)
theorem dX6_names_39 : decode cX6_names 39 = .ok (.aload_n 0, 1) := dk_42 (dk_at dksX6_names_1 15 rfl rfl)
theorem dX6_names_40 : decode cX6_names 40 = .ok (.getfield 155, 3) := dk_180 0 155 (dk_at dksX6_names_1 16 rfl rfl)
theorem dX6_names_43 : decode cX6_names 43 = .ok (.getfield 175, 3) := dk_180 0 175 (dk_at dksX6_names_1 19 rfl rfl)
theorem dX6_names_46 : decode cX6_names 46 = .ok (.iload 4, 2) := dk_21 4 (dk_at dksX6_names_1 22 rfl rfl)
theorem dX6_names_48 : decode cX6_names 48 = .ok (.iastore, 1) := dk_79 (dk_at dksX6_names_2 0 rfl rfl)
theorem dX6_names_49 : decode cX6_names 49 = .ok (.aload_n 0, 1) := dk_42 (dk_at dksX6_names_2 1 rfl rfl)
theorem dX6_names_50 : decode cX6_names 50 = .ok (.getfield 155, 3) := dk_180 0 155 (dk_at dksX6_names_2 2 rfl rfl)
theorem dX6_names_53 : decode cX6_names 53 = .ok (.dup, 1) := dk_89 (dk_at dksX6_names_2 5 rfl rfl)
theorem dX6_names_54 : decode cX6_names 54 = .ok (.getfield 175, 3) := dk_180 0 175 (dk_at dksX6_names_2 6 rfl rfl)
theorem dX6_names_57 : decode cX6_names 57 = .ok (.iconst 1, 1) := dk_4 (dk_at dksX6_names_2 9 rfl rfl)
theorem dX6_names_58 : decode cX6_names 58 = .ok (.iadd, 1) := dk_96 (dk_at dksX6_names_2 10 rfl rfl)
theorem dX6_names_59 : decode cX6_names 59 = .ok (.putfield 175, 3) := dk_181 0 175 (dk_at dksX6_names_2 11 rfl rfl)
theorem dX6_names_62 : decode cX6_names 62 = .ok (.return_, 1) := dk_177 (dk_at dksX6_names_2 14 rfl rfl)
abbrev cX6_readDead : ByteArray := prog_15_method_35_code
def yX6_readDead : MethodName := ⟨RX6, "readDead", "()V"⟩
def dkwX6_readDead_8 : List UInt8 := [180, 0, 155, 180, 0, 241, 16, 254, 79, 42, 180, 0, 155, 89, 180, 0, 241, 4, 96, 181, 0, 241, 177]
abbrev dktX6_readDead_8 : List UInt8 := dkwX6_readDead_8 ++ []
def dkwX6_readDead_7 : List UInt8 := [180, 0, 155, 180, 1, 7, 42, 180, 0, 155, 180, 0, 241, 21, 5, 79, 42, 180, 0, 155, 180, 1, 10, 42]
abbrev dktX6_readDead_7 : List UInt8 := dkwX6_readDead_7 ++ dktX6_readDead_8
def dkwX6_readDead_6 : List UInt8 := [180, 0, 241, 29, 79, 42, 180, 0, 155, 180, 1, 5, 42, 180, 0, 155, 180, 0, 241, 21, 4, 79, 42]
abbrev dktX6_readDead_6 : List UInt8 := dkwX6_readDead_6 ++ dktX6_readDead_7
def dkwX6_readDead_5 : List UInt8 := [42, 31, 4, 42, 180, 0, 155, 180, 0, 241, 182, 0, 236, 42, 180, 0, 155, 180, 1, 2, 42, 180, 0, 155]
abbrev dktX6_readDead_5 : List UInt8 := dkwX6_readDead_5 ++ dktX6_readDead_6
def dkwX6_readDead_4 : List UInt8 := [54, 4, 42, 18, 253, 182, 0, 136, 42, 3, 182, 0, 255, 54, 5, 42, 180, 0, 81, 8, 160, 0, 4, 177]
abbrev dktX6_readDead_4 : List UInt8 := dkwX6_readDead_4 ++ dktX6_readDead_5
def dkwX6_readDead_3 : List UInt8 := [62, 29, 2, 160, 0, 8, 42, 4, 182, 0, 124, 42, 182, 0, 117, 42, 18, 251, 3, 16, 39, 182, 0, 215]
abbrev dktX6_readDead_3 : List UInt8 := dkwX6_readDead_3 ++ dktX6_readDead_4
def dkwX6_readDead_2 : List UInt8 := [182, 0, 120, 153, 0, 7, 5, 167, 0, 17, 42, 18, 249, 182, 0, 120, 153, 0, 7, 6, 167, 0, 4, 2]
abbrev dktX6_readDead_2 : List UInt8 := dkwX6_readDead_2 ++ dktX6_readDead_3
def dkwX6_readDead_1 : List UInt8 := [153, 0, 7, 3, 167, 0, 43, 42, 18, 245, 182, 0, 120, 153, 0, 7, 4, 167, 0, 30, 42, 18, 247]
abbrev dktX6_readDead_1 : List UInt8 := dkwX6_readDead_1 ++ dktX6_readDead_2
def dkwX6_readDead_0 : List UInt8 := [42, 42, 180, 0, 155, 180, 0, 241, 16, 6, 182, 0, 223, 42, 182, 0, 227, 64, 42, 18, 243, 182, 0, 120]
abbrev dktX6_readDead_0 : List UInt8 := dkwX6_readDead_0 ++ dktX6_readDead_1
theorem dksX6_readDead_0 : cX6_readDead.data.toList.drop 0 = dktX6_readDead_0 := by decide +kernel
theorem dksX6_readDead_1 : cX6_readDead.data.toList.drop 24 = dktX6_readDead_1 := dk_seg dksX6_readDead_0 24 rfl rfl
theorem dksX6_readDead_2 : cX6_readDead.data.toList.drop 47 = dktX6_readDead_2 := dk_seg dksX6_readDead_1 23 rfl rfl
theorem dksX6_readDead_3 : cX6_readDead.data.toList.drop 71 = dktX6_readDead_3 := dk_seg dksX6_readDead_2 24 rfl rfl
theorem dksX6_readDead_4 : cX6_readDead.data.toList.drop 95 = dktX6_readDead_4 := dk_seg dksX6_readDead_3 24 rfl rfl
theorem dksX6_readDead_5 : cX6_readDead.data.toList.drop 119 = dktX6_readDead_5 := dk_seg dksX6_readDead_4 24 rfl rfl
theorem dksX6_readDead_6 : cX6_readDead.data.toList.drop 143 = dktX6_readDead_6 := dk_seg dksX6_readDead_5 24 rfl rfl
theorem dksX6_readDead_7 : cX6_readDead.data.toList.drop 166 = dktX6_readDead_7 := dk_seg dksX6_readDead_6 23 rfl rfl
theorem dksX6_readDead_8 : cX6_readDead.data.toList.drop 190 = dktX6_readDead_8 := dk_seg dksX6_readDead_7 24 rfl rfl
theorem dX6_readDead_0 : decode cX6_readDead 0 = .ok (.aload_n 0, 1) := dk_42 (dk_at dksX6_readDead_0 0 rfl rfl)
theorem dX6_readDead_1 : decode cX6_readDead 1 = .ok (.aload_n 0, 1) := dk_42 (dk_at dksX6_readDead_0 1 rfl rfl)
theorem dX6_readDead_2 : decode cX6_readDead 2 = .ok (.getfield 155, 3) := dk_180 0 155 (dk_at dksX6_readDead_0 2 rfl rfl)
theorem dX6_readDead_5 : decode cX6_readDead 5 = .ok (.getfield 241, 3) := dk_180 0 241 (dk_at dksX6_readDead_0 5 rfl rfl)
theorem dX6_readDead_8 : decode cX6_readDead 8 = .ok (.bipush 6, 2) := dk_16 6 (dk_at dksX6_readDead_0 8 rfl rfl)
theorem dX6_readDead_10 : decode cX6_readDead 10 = .ok (.invokevirtual 223, 3) := dk_182 0 223 (dk_at dksX6_readDead_0 10 rfl rfl)
theorem dX6_readDead_13 : decode cX6_readDead 13 = .ok (.aload_n 0, 1) := dk_42 (dk_at dksX6_readDead_0 13 rfl rfl)
theorem dX6_readDead_14 : decode cX6_readDead 14 = .ok (.invokevirtual 227, 3) := dk_182 0 227 (dk_at dksX6_readDead_0 14 rfl rfl)
theorem dX6_readDead_17 : decode cX6_readDead 17 = .ok (.lstore_n 1, 1) := dk_64 (dk_at dksX6_readDead_0 17 rfl rfl)
theorem dX6_readDead_18 : decode cX6_readDead 18 = .ok (.aload_n 0, 1) := dk_42 (dk_at dksX6_readDead_0 18 rfl rfl)
theorem dX6_readDead_19 : decode cX6_readDead 19 = .ok (.ldc 243, 2) := dk_18 243 (dk_at dksX6_readDead_0 19 rfl rfl)
theorem dX6_readDead_21 : decode cX6_readDead 21 = .ok (.invokevirtual 120, 3) := dk_182 0 120 (dk_at dksX6_readDead_0 21 rfl rfl)
theorem dX6_readDead_24 : decode cX6_readDead 24 = .ok (.ifCond .eq 7, 3) := dk_153 0 7 (dk_at dksX6_readDead_1 0 rfl rfl)
theorem dX6_readDead_27 : decode cX6_readDead 27 = .ok (.iconst 0, 1) := dk_3 (dk_at dksX6_readDead_1 3 rfl rfl)
theorem dX6_readDead_28 : decode cX6_readDead 28 = .ok (.goto 43, 3) := dk_167 0 43 (dk_at dksX6_readDead_1 4 rfl rfl)
theorem dX6_readDead_31 : decode cX6_readDead 31 = .ok (.aload_n 0, 1) := dk_42 (dk_at dksX6_readDead_1 7 rfl rfl)
theorem dX6_readDead_32 : decode cX6_readDead 32 = .ok (.ldc 245, 2) := dk_18 245 (dk_at dksX6_readDead_1 8 rfl rfl)
theorem dX6_readDead_34 : decode cX6_readDead 34 = .ok (.invokevirtual 120, 3) := dk_182 0 120 (dk_at dksX6_readDead_1 10 rfl rfl)
theorem dX6_readDead_37 : decode cX6_readDead 37 = .ok (.ifCond .eq 7, 3) := dk_153 0 7 (dk_at dksX6_readDead_1 13 rfl rfl)
theorem dX6_readDead_40 : decode cX6_readDead 40 = .ok (.iconst 1, 1) := dk_4 (dk_at dksX6_readDead_1 16 rfl rfl)
theorem dX6_readDead_41 : decode cX6_readDead 41 = .ok (.goto 30, 3) := dk_167 0 30 (dk_at dksX6_readDead_1 17 rfl rfl)
theorem dX6_readDead_44 : decode cX6_readDead 44 = .ok (.aload_n 0, 1) := dk_42 (dk_at dksX6_readDead_1 20 rfl rfl)
theorem dX6_readDead_45 : decode cX6_readDead 45 = .ok (.ldc 247, 2) := dk_18 247 (dk_at dksX6_readDead_1 21 rfl rfl)
theorem dX6_readDead_47 : decode cX6_readDead 47 = .ok (.invokevirtual 120, 3) := dk_182 0 120 (dk_at dksX6_readDead_2 0 rfl rfl)
theorem dX6_readDead_50 : decode cX6_readDead 50 = .ok (.ifCond .eq 7, 3) := dk_153 0 7 (dk_at dksX6_readDead_2 3 rfl rfl)
theorem dX6_readDead_53 : decode cX6_readDead 53 = .ok (.iconst 2, 1) := dk_5 (dk_at dksX6_readDead_2 6 rfl rfl)
theorem dX6_readDead_54 : decode cX6_readDead 54 = .ok (.goto 17, 3) := dk_167 0 17 (dk_at dksX6_readDead_2 7 rfl rfl)
theorem dX6_readDead_57 : decode cX6_readDead 57 = .ok (.aload_n 0, 1) := dk_42 (dk_at dksX6_readDead_2 10 rfl rfl)
theorem dX6_readDead_58 : decode cX6_readDead 58 = .ok (.ldc 249, 2) := dk_18 249 (dk_at dksX6_readDead_2 11 rfl rfl)
theorem dX6_readDead_60 : decode cX6_readDead 60 = .ok (.invokevirtual 120, 3) := dk_182 0 120 (dk_at dksX6_readDead_2 13 rfl rfl)
theorem dX6_readDead_63 : decode cX6_readDead 63 = .ok (.ifCond .eq 7, 3) := dk_153 0 7 (dk_at dksX6_readDead_2 16 rfl rfl)
theorem dX6_readDead_66 : decode cX6_readDead 66 = .ok (.iconst 3, 1) := dk_6 (dk_at dksX6_readDead_2 19 rfl rfl)
theorem dX6_readDead_67 : decode cX6_readDead 67 = .ok (.goto 4, 3) := dk_167 0 4 (dk_at dksX6_readDead_2 20 rfl rfl)
theorem dX6_readDead_70 : decode cX6_readDead 70 = .ok (.iconst (-1), 1) := dk_2 (dk_at dksX6_readDead_2 23 rfl rfl)
theorem dX6_readDead_71 : decode cX6_readDead 71 = .ok (.istore_n 3, 1) := dk_62 (dk_at dksX6_readDead_3 0 rfl rfl)
theorem dX6_readDead_72 : decode cX6_readDead 72 = .ok (.iload_n 3, 1) := dk_29 (dk_at dksX6_readDead_3 1 rfl rfl)
theorem dX6_readDead_73 : decode cX6_readDead 73 = .ok (.iconst (-1), 1) := dk_2 (dk_at dksX6_readDead_3 2 rfl rfl)
theorem dX6_readDead_74 : decode cX6_readDead 74 = .ok (.if_icmp .ne 8, 3) := dk_160 0 8 (dk_at dksX6_readDead_3 3 rfl rfl)
theorem dX6_readDead_77 : decode cX6_readDead 77 = .ok (.aload_n 0, 1) := dk_42 (dk_at dksX6_readDead_3 6 rfl rfl)
theorem dX6_readDead_78 : decode cX6_readDead 78 = .ok (.iconst 1, 1) := dk_4 (dk_at dksX6_readDead_3 7 rfl rfl)
theorem dX6_readDead_79 : decode cX6_readDead 79 = .ok (.invokevirtual 124, 3) := dk_182 0 124 (dk_at dksX6_readDead_3 8 rfl rfl)
theorem dX6_readDead_82 : decode cX6_readDead 82 = .ok (.aload_n 0, 1) := dk_42 (dk_at dksX6_readDead_3 11 rfl rfl)
theorem dX6_readDead_83 : decode cX6_readDead 83 = .ok (.invokevirtual 117, 3) := dk_182 0 117 (dk_at dksX6_readDead_3 12 rfl rfl)
theorem dX6_readDead_86 : decode cX6_readDead 86 = .ok (.aload_n 0, 1) := dk_42 (dk_at dksX6_readDead_3 15 rfl rfl)
theorem dX6_readDead_87 : decode cX6_readDead 87 = .ok (.ldc 251, 2) := dk_18 251 (dk_at dksX6_readDead_3 16 rfl rfl)
theorem dX6_readDead_89 : decode cX6_readDead 89 = .ok (.iconst 0, 1) := dk_3 (dk_at dksX6_readDead_3 18 rfl rfl)
theorem dX6_readDead_90 : decode cX6_readDead 90 = .ok (.bipush 39, 2) := dk_16 39 (dk_at dksX6_readDead_3 19 rfl rfl)
theorem dX6_readDead_92 : decode cX6_readDead 92 = .ok (.invokevirtual 215, 3) := dk_182 0 215 (dk_at dksX6_readDead_3 21 rfl rfl)
theorem dX6_readDead_95 : decode cX6_readDead 95 = .ok (.istore 4, 2) := dk_54 4 (dk_at dksX6_readDead_4 0 rfl rfl)
theorem dX6_readDead_97 : decode cX6_readDead 97 = .ok (.aload_n 0, 1) := dk_42 (dk_at dksX6_readDead_4 2 rfl rfl)
theorem dX6_readDead_98 : decode cX6_readDead 98 = .ok (.ldc 253, 2) := dk_18 253 (dk_at dksX6_readDead_4 3 rfl rfl)
theorem dX6_readDead_100 : decode cX6_readDead 100 = .ok (.invokevirtual 136, 3) := dk_182 0 136 (dk_at dksX6_readDead_4 5 rfl rfl)
theorem dX6_readDead_103 : decode cX6_readDead 103 = .ok (.aload_n 0, 1) := dk_42 (dk_at dksX6_readDead_4 8 rfl rfl)
theorem dX6_readDead_104 : decode cX6_readDead 104 = .ok (.iconst 0, 1) := dk_3 (dk_at dksX6_readDead_4 9 rfl rfl)
theorem dX6_readDead_105 : decode cX6_readDead 105 = .ok (.invokevirtual 255, 3) := dk_182 0 255 (dk_at dksX6_readDead_4 10 rfl rfl)
theorem dX6_readDead_108 : decode cX6_readDead 108 = .ok (.istore 5, 2) := dk_54 5 (dk_at dksX6_readDead_4 13 rfl rfl)
theorem dX6_readDead_110 : decode cX6_readDead 110 = .ok (.aload_n 0, 1) := dk_42 (dk_at dksX6_readDead_4 15 rfl rfl)
theorem dX6_readDead_111 : decode cX6_readDead 111 = .ok (.getfield 81, 3) := dk_180 0 81 (dk_at dksX6_readDead_4 16 rfl rfl)
theorem dX6_readDead_114 : decode cX6_readDead 114 = .ok (.iconst 5, 1) := dk_8 (dk_at dksX6_readDead_4 19 rfl rfl)
theorem dX6_readDead_115 : decode cX6_readDead 115 = .ok (.if_icmp .ne 4, 3) := dk_160 0 4 (dk_at dksX6_readDead_4 20 rfl rfl)
theorem dX6_readDead_118 : decode cX6_readDead 118 = .ok (.return_, 1) := dk_177 (dk_at dksX6_readDead_4 23 rfl rfl)
theorem dX6_readDead_119 : decode cX6_readDead 119 = .ok (.aload_n 0, 1) := dk_42 (dk_at dksX6_readDead_5 0 rfl rfl)
theorem dX6_readDead_120 : decode cX6_readDead 120 = .ok (.lload_n 1, 1) := dk_31 (dk_at dksX6_readDead_5 1 rfl rfl)
theorem dX6_readDead_121 : decode cX6_readDead 121 = .ok (.iconst 1, 1) := dk_4 (dk_at dksX6_readDead_5 2 rfl rfl)
theorem dX6_readDead_122 : decode cX6_readDead 122 = .ok (.aload_n 0, 1) := dk_42 (dk_at dksX6_readDead_5 3 rfl rfl)
theorem dX6_readDead_123 : decode cX6_readDead 123 = .ok (.getfield 155, 3) := dk_180 0 155 (dk_at dksX6_readDead_5 4 rfl rfl)
theorem dX6_readDead_126 : decode cX6_readDead 126 = .ok (.getfield 241, 3) := dk_180 0 241 (dk_at dksX6_readDead_5 7 rfl rfl)
theorem dX6_readDead_129 : decode cX6_readDead 129 = .ok (.invokevirtual 236, 3) := dk_182 0 236 (dk_at dksX6_readDead_5 10 rfl rfl)
theorem dX6_readDead_132 : decode cX6_readDead 132 = .ok (.aload_n 0, 1) := dk_42 (dk_at dksX6_readDead_5 13 rfl rfl)
theorem dX6_readDead_133 : decode cX6_readDead 133 = .ok (.getfield 155, 3) := dk_180 0 155 (dk_at dksX6_readDead_5 14 rfl rfl)
theorem dX6_readDead_136 : decode cX6_readDead 136 = .ok (.getfield 258, 3) := dk_180 1 2 (dk_at dksX6_readDead_5 17 rfl rfl)
theorem dX6_readDead_139 : decode cX6_readDead 139 = .ok (.aload_n 0, 1) := dk_42 (dk_at dksX6_readDead_5 20 rfl rfl)
theorem dX6_readDead_140 : decode cX6_readDead 140 = .ok (.getfield 155, 3) := dk_180 0 155 (dk_at dksX6_readDead_5 21 rfl rfl)
theorem dX6_readDead_143 : decode cX6_readDead 143 = .ok (.getfield 241, 3) := dk_180 0 241 (dk_at dksX6_readDead_6 0 rfl rfl)
theorem dX6_readDead_146 : decode cX6_readDead 146 = .ok (.iload_n 3, 1) := dk_29 (dk_at dksX6_readDead_6 3 rfl rfl)
theorem dX6_readDead_147 : decode cX6_readDead 147 = .ok (.iastore, 1) := dk_79 (dk_at dksX6_readDead_6 4 rfl rfl)
theorem dX6_readDead_148 : decode cX6_readDead 148 = .ok (.aload_n 0, 1) := dk_42 (dk_at dksX6_readDead_6 5 rfl rfl)
theorem dX6_readDead_149 : decode cX6_readDead 149 = .ok (.getfield 155, 3) := dk_180 0 155 (dk_at dksX6_readDead_6 6 rfl rfl)
theorem dX6_readDead_152 : decode cX6_readDead 152 = .ok (.getfield 261, 3) := dk_180 1 5 (dk_at dksX6_readDead_6 9 rfl rfl)
theorem dX6_readDead_155 : decode cX6_readDead 155 = .ok (.aload_n 0, 1) := dk_42 (dk_at dksX6_readDead_6 12 rfl rfl)
theorem dX6_readDead_156 : decode cX6_readDead 156 = .ok (.getfield 155, 3) := dk_180 0 155 (dk_at dksX6_readDead_6 13 rfl rfl)
theorem dX6_readDead_159 : decode cX6_readDead 159 = .ok (.getfield 241, 3) := dk_180 0 241 (dk_at dksX6_readDead_6 16 rfl rfl)
theorem dX6_readDead_162 : decode cX6_readDead 162 = .ok (.iload 4, 2) := dk_21 4 (dk_at dksX6_readDead_6 19 rfl rfl)
theorem dX6_readDead_164 : decode cX6_readDead 164 = .ok (.iastore, 1) := dk_79 (dk_at dksX6_readDead_6 21 rfl rfl)
theorem dX6_readDead_165 : decode cX6_readDead 165 = .ok (.aload_n 0, 1) := dk_42 (dk_at dksX6_readDead_6 22 rfl rfl)
theorem dX6_readDead_166 : decode cX6_readDead 166 = .ok (.getfield 155, 3) := dk_180 0 155 (dk_at dksX6_readDead_7 0 rfl rfl)
theorem dX6_readDead_169 : decode cX6_readDead 169 = .ok (.getfield 263, 3) := dk_180 1 7 (dk_at dksX6_readDead_7 3 rfl rfl)
theorem dX6_readDead_172 : decode cX6_readDead 172 = .ok (.aload_n 0, 1) := dk_42 (dk_at dksX6_readDead_7 6 rfl rfl)
theorem dX6_readDead_173 : decode cX6_readDead 173 = .ok (.getfield 155, 3) := dk_180 0 155 (dk_at dksX6_readDead_7 7 rfl rfl)
theorem dX6_readDead_176 : decode cX6_readDead 176 = .ok (.getfield 241, 3) := dk_180 0 241 (dk_at dksX6_readDead_7 10 rfl rfl)
theorem dX6_readDead_179 : decode cX6_readDead 179 = .ok (.iload 5, 2) := dk_21 5 (dk_at dksX6_readDead_7 13 rfl rfl)
theorem dX6_readDead_181 : decode cX6_readDead 181 = .ok (.iastore, 1) := dk_79 (dk_at dksX6_readDead_7 15 rfl rfl)
theorem dX6_readDead_182 : decode cX6_readDead 182 = .ok (.aload_n 0, 1) := dk_42 (dk_at dksX6_readDead_7 16 rfl rfl)
theorem dX6_readDead_183 : decode cX6_readDead 183 = .ok (.getfield 155, 3) := dk_180 0 155 (dk_at dksX6_readDead_7 17 rfl rfl)
theorem dX6_readDead_186 : decode cX6_readDead 186 = .ok (.getfield 266, 3) := dk_180 1 10 (dk_at dksX6_readDead_7 20 rfl rfl)
theorem dX6_readDead_189 : decode cX6_readDead 189 = .ok (.aload_n 0, 1) := dk_42 (dk_at dksX6_readDead_7 23 rfl rfl)
theorem dX6_readDead_190 : decode cX6_readDead 190 = .ok (.getfield 155, 3) := dk_180 0 155 (dk_at dksX6_readDead_8 0 rfl rfl)
theorem dX6_readDead_193 : decode cX6_readDead 193 = .ok (.getfield 241, 3) := dk_180 0 241 (dk_at dksX6_readDead_8 3 rfl rfl)
theorem dX6_readDead_196 : decode cX6_readDead 196 = .ok (.bipush (-2), 2) := dk_16 254 (dk_at dksX6_readDead_8 6 rfl rfl)
theorem dX6_readDead_198 : decode cX6_readDead 198 = .ok (.iastore, 1) := dk_79 (dk_at dksX6_readDead_8 8 rfl rfl)
theorem dX6_readDead_199 : decode cX6_readDead 199 = .ok (.aload_n 0, 1) := dk_42 (dk_at dksX6_readDead_8 9 rfl rfl)
theorem dX6_readDead_200 : decode cX6_readDead 200 = .ok (.getfield 155, 3) := dk_180 0 155 (dk_at dksX6_readDead_8 10 rfl rfl)
theorem dX6_readDead_203 : decode cX6_readDead 203 = .ok (.dup, 1) := dk_89 (dk_at dksX6_readDead_8 13 rfl rfl)
theorem dX6_readDead_204 : decode cX6_readDead 204 = .ok (.getfield 241, 3) := dk_180 0 241 (dk_at dksX6_readDead_8 14 rfl rfl)
theorem dX6_readDead_207 : decode cX6_readDead 207 = .ok (.iconst 1, 1) := dk_4 (dk_at dksX6_readDead_8 17 rfl rfl)
theorem dX6_readDead_208 : decode cX6_readDead 208 = .ok (.iadd, 1) := dk_96 (dk_at dksX6_readDead_8 18 rfl rfl)
theorem dX6_readDead_209 : decode cX6_readDead 209 = .ok (.putfield 241, 3) := dk_181 0 241 (dk_at dksX6_readDead_8 19 rfl rfl)
theorem dX6_readDead_212 : decode cX6_readDead 212 = .ok (.return_, 1) := dk_177 (dk_at dksX6_readDead_8 22 rfl rfl)
abbrev cX6_readKnown : ByteArray := prog_15_method_30_code
def yX6_readKnown : MethodName := ⟨RX6, "readKnown", "(I)I"⟩
def dkwX6_readKnown_0 : List UInt8 := [42, 27, 182, 0, 184, 61, 42, 182, 0, 117, 28, 172]
abbrev dktX6_readKnown_0 : List UInt8 := dkwX6_readKnown_0 ++ []
theorem dksX6_readKnown_0 : cX6_readKnown.data.toList.drop 0 = dktX6_readKnown_0 := by decide +kernel
theorem dX6_readKnown_0 : decode cX6_readKnown 0 = .ok (.aload_n 0, 1) := dk_42 (dk_at dksX6_readKnown_0 0 rfl rfl)
theorem dX6_readKnown_1 : decode cX6_readKnown 1 = .ok (.iload_n 1, 1) := dk_27 (dk_at dksX6_readKnown_0 1 rfl rfl)
theorem dX6_readKnown_2 : decode cX6_readKnown 2 = .ok (.invokevirtual 184, 3) := dk_182 0 184 (dk_at dksX6_readKnown_0 2 rfl rfl)
theorem dX6_readKnown_5 : decode cX6_readKnown 5 = .ok (.istore_n 2, 1) := dk_61 (dk_at dksX6_readKnown_0 5 rfl rfl)
theorem dX6_readKnown_6 : decode cX6_readKnown 6 = .ok (.aload_n 0, 1) := dk_42 (dk_at dksX6_readKnown_0 6 rfl rfl)
theorem dX6_readKnown_7 : decode cX6_readKnown 7 = .ok (.invokevirtual 117, 3) := dk_182 0 117 (dk_at dksX6_readKnown_0 7 rfl rfl)
theorem dX6_readKnown_10 : decode cX6_readKnown 10 = .ok (.iload_n 2, 1) := dk_28 (dk_at dksX6_readKnown_0 10 rfl rfl)
theorem dX6_readKnown_11 : decode cX6_readKnown 11 = .ok (.ireturn, 1) := dk_172 (dk_at dksX6_readKnown_0 11 rfl rfl)
abbrev cX6_knownOne : ByteArray := prog_15_method_29_code
def yX6_knownOne : MethodName := ⟨RX6, "knownOne", "(I)I"⟩
def dkwX6_knownOne_2 : List UInt8 := [180, 0, 81, 8, 160, 0, 7, 3, 167, 0, 12, 42, 180, 0, 155, 180, 0, 181, 28, 46, 172]
abbrev dktX6_knownOne_2 : List UInt8 := dkwX6_knownOne_2 ++ []
def dkwX6_knownOne_1 : List UInt8 := [28, 2, 159, 0, 16, 42, 180, 0, 155, 180, 0, 178, 28, 46, 27, 159, 0, 8, 42, 5, 182, 0, 124, 42]
abbrev dktX6_knownOne_1 : List UInt8 := dkwX6_knownOne_1 ++ dktX6_knownOne_2
def dkwX6_knownOne_0 : List UInt8 := [42, 182, 0, 164, 154, 0, 8, 42, 4, 182, 0, 124, 42, 180, 0, 155, 42, 180, 0, 97, 182, 0, 168, 61]
abbrev dktX6_knownOne_0 : List UInt8 := dkwX6_knownOne_0 ++ dktX6_knownOne_1
theorem dksX6_knownOne_0 : cX6_knownOne.data.toList.drop 0 = dktX6_knownOne_0 := by decide +kernel
theorem dksX6_knownOne_1 : cX6_knownOne.data.toList.drop 24 = dktX6_knownOne_1 := dk_seg dksX6_knownOne_0 24 rfl rfl
theorem dksX6_knownOne_2 : cX6_knownOne.data.toList.drop 48 = dktX6_knownOne_2 := dk_seg dksX6_knownOne_1 24 rfl rfl
theorem dX6_knownOne_0 : decode cX6_knownOne 0 = .ok (.aload_n 0, 1) := dk_42 (dk_at dksX6_knownOne_0 0 rfl rfl)
theorem dX6_knownOne_1 : decode cX6_knownOne 1 = .ok (.invokevirtual 164, 3) := dk_182 0 164 (dk_at dksX6_knownOne_0 1 rfl rfl)
theorem dX6_knownOne_4 : decode cX6_knownOne 4 = .ok (.ifCond .ne 8, 3) := dk_154 0 8 (dk_at dksX6_knownOne_0 4 rfl rfl)
theorem dX6_knownOne_7 : decode cX6_knownOne 7 = .ok (.aload_n 0, 1) := dk_42 (dk_at dksX6_knownOne_0 7 rfl rfl)
theorem dX6_knownOne_8 : decode cX6_knownOne 8 = .ok (.iconst 1, 1) := dk_4 (dk_at dksX6_knownOne_0 8 rfl rfl)
theorem dX6_knownOne_9 : decode cX6_knownOne 9 = .ok (.invokevirtual 124, 3) := dk_182 0 124 (dk_at dksX6_knownOne_0 9 rfl rfl)
theorem dX6_knownOne_12 : decode cX6_knownOne 12 = .ok (.aload_n 0, 1) := dk_42 (dk_at dksX6_knownOne_0 12 rfl rfl)
theorem dX6_knownOne_13 : decode cX6_knownOne 13 = .ok (.getfield 155, 3) := dk_180 0 155 (dk_at dksX6_knownOne_0 13 rfl rfl)
theorem dX6_knownOne_16 : decode cX6_knownOne 16 = .ok (.aload_n 0, 1) := dk_42 (dk_at dksX6_knownOne_0 16 rfl rfl)
theorem dX6_knownOne_17 : decode cX6_knownOne 17 = .ok (.getfield 97, 3) := dk_180 0 97 (dk_at dksX6_knownOne_0 17 rfl rfl)
theorem dX6_knownOne_20 : decode cX6_knownOne 20 = .ok (.invokevirtual 168, 3) := dk_182 0 168 (dk_at dksX6_knownOne_0 20 rfl rfl)
theorem dX6_knownOne_23 : decode cX6_knownOne 23 = .ok (.istore_n 2, 1) := dk_61 (dk_at dksX6_knownOne_0 23 rfl rfl)
theorem dX6_knownOne_24 : decode cX6_knownOne 24 = .ok (.iload_n 2, 1) := dk_28 (dk_at dksX6_knownOne_1 0 rfl rfl)
theorem dX6_knownOne_25 : decode cX6_knownOne 25 = .ok (.iconst (-1), 1) := dk_2 (dk_at dksX6_knownOne_1 1 rfl rfl)
theorem dX6_knownOne_26 : decode cX6_knownOne 26 = .ok (.if_icmp .eq 16, 3) := dk_159 0 16 (dk_at dksX6_knownOne_1 2 rfl rfl)
theorem dX6_knownOne_29 : decode cX6_knownOne 29 = .ok (.aload_n 0, 1) := dk_42 (dk_at dksX6_knownOne_1 5 rfl rfl)
theorem dX6_knownOne_30 : decode cX6_knownOne 30 = .ok (.getfield 155, 3) := dk_180 0 155 (dk_at dksX6_knownOne_1 6 rfl rfl)
theorem dX6_knownOne_33 : decode cX6_knownOne 33 = .ok (.getfield 178, 3) := dk_180 0 178 (dk_at dksX6_knownOne_1 9 rfl rfl)
theorem dX6_knownOne_36 : decode cX6_knownOne 36 = .ok (.iload_n 2, 1) := dk_28 (dk_at dksX6_knownOne_1 12 rfl rfl)
theorem dX6_knownOne_37 : decode cX6_knownOne 37 = .ok (.iaload, 1) := dk_46 (dk_at dksX6_knownOne_1 13 rfl rfl)
theorem dX6_knownOne_38 : decode cX6_knownOne 38 = .ok (.iload_n 1, 1) := dk_27 (dk_at dksX6_knownOne_1 14 rfl rfl)
theorem dX6_knownOne_39 : decode cX6_knownOne 39 = .ok (.if_icmp .eq 8, 3) := dk_159 0 8 (dk_at dksX6_knownOne_1 15 rfl rfl)
theorem dX6_knownOne_42 : decode cX6_knownOne 42 = .ok (.aload_n 0, 1) := dk_42 (dk_at dksX6_knownOne_1 18 rfl rfl)
theorem dX6_knownOne_43 : decode cX6_knownOne 43 = .ok (.iconst 2, 1) := dk_5 (dk_at dksX6_knownOne_1 19 rfl rfl)
theorem dX6_knownOne_44 : decode cX6_knownOne 44 = .ok (.invokevirtual 124, 3) := dk_182 0 124 (dk_at dksX6_knownOne_1 20 rfl rfl)
theorem dX6_knownOne_47 : decode cX6_knownOne 47 = .ok (.aload_n 0, 1) := dk_42 (dk_at dksX6_knownOne_1 23 rfl rfl)
theorem dX6_knownOne_48 : decode cX6_knownOne 48 = .ok (.getfield 81, 3) := dk_180 0 81 (dk_at dksX6_knownOne_2 0 rfl rfl)
theorem dX6_knownOne_51 : decode cX6_knownOne 51 = .ok (.iconst 5, 1) := dk_8 (dk_at dksX6_knownOne_2 3 rfl rfl)
theorem dX6_knownOne_52 : decode cX6_knownOne 52 = .ok (.if_icmp .ne 7, 3) := dk_160 0 7 (dk_at dksX6_knownOne_2 4 rfl rfl)
theorem dX6_knownOne_55 : decode cX6_knownOne 55 = .ok (.iconst 0, 1) := dk_3 (dk_at dksX6_knownOne_2 7 rfl rfl)
theorem dX6_knownOne_56 : decode cX6_knownOne 56 = .ok (.goto 12, 3) := dk_167 0 12 (dk_at dksX6_knownOne_2 8 rfl rfl)
theorem dX6_knownOne_59 : decode cX6_knownOne 59 = .ok (.aload_n 0, 1) := dk_42 (dk_at dksX6_knownOne_2 11 rfl rfl)
theorem dX6_knownOne_60 : decode cX6_knownOne 60 = .ok (.getfield 155, 3) := dk_180 0 155 (dk_at dksX6_knownOne_2 12 rfl rfl)
theorem dX6_knownOne_63 : decode cX6_knownOne 63 = .ok (.getfield 181, 3) := dk_180 0 181 (dk_at dksX6_knownOne_2 15 rfl rfl)
theorem dX6_knownOne_66 : decode cX6_knownOne 66 = .ok (.iload_n 2, 1) := dk_28 (dk_at dksX6_knownOne_2 18 rfl rfl)
theorem dX6_knownOne_67 : decode cX6_knownOne 67 = .ok (.iaload, 1) := dk_46 (dk_at dksX6_knownOne_2 19 rfl rfl)
theorem dX6_knownOne_68 : decode cX6_knownOne 68 = .ok (.ireturn, 1) := dk_172 (dk_at dksX6_knownOne_2 20 rfl rfl)
abbrev cX6_readMirror : ByteArray := prog_15_method_36_code
def yX6_readMirror : MethodName := ⟨RX6, "readMirror", "()V"⟩
def dkwX6_readMirror_3 : List UInt8 := [180, 1, 10, 27, 28, 79, 177]
abbrev dktX6_readMirror_3 : List UInt8 := dkwX6_readMirror_3 ++ []
def dkwX6_readMirror_2 : List UInt8 := [180, 0, 155, 180, 0, 159, 4, 100, 182, 0, 140, 61, 42, 180, 0, 81, 8, 159, 0, 13, 42, 180, 0, 155]
abbrev dktX6_readMirror_2 : List UInt8 := dkwX6_readMirror_2 ++ dktX6_readMirror_3
def dkwX6_readMirror_1 : List UInt8 := [180, 1, 10, 27, 46, 16, 254, 159, 0, 8, 42, 6, 182, 0, 124, 42, 182, 0, 117, 42, 3, 42]
abbrev dktX6_readMirror_1 : List UInt8 := dkwX6_readMirror_1 ++ dktX6_readMirror_2
def dkwX6_readMirror_0 : List UInt8 := [42, 3, 4, 182, 0, 223, 42, 4, 182, 0, 184, 60, 42, 180, 0, 81, 8, 159, 0, 22, 42, 180, 0, 155]
abbrev dktX6_readMirror_0 : List UInt8 := dkwX6_readMirror_0 ++ dktX6_readMirror_1
theorem dksX6_readMirror_0 : cX6_readMirror.data.toList.drop 0 = dktX6_readMirror_0 := by decide +kernel
theorem dksX6_readMirror_1 : cX6_readMirror.data.toList.drop 24 = dktX6_readMirror_1 := dk_seg dksX6_readMirror_0 24 rfl rfl
theorem dksX6_readMirror_2 : cX6_readMirror.data.toList.drop 46 = dktX6_readMirror_2 := dk_seg dksX6_readMirror_1 22 rfl rfl
theorem dksX6_readMirror_3 : cX6_readMirror.data.toList.drop 70 = dktX6_readMirror_3 := dk_seg dksX6_readMirror_2 24 rfl rfl
theorem dX6_readMirror_0 : decode cX6_readMirror 0 = .ok (.aload_n 0, 1) := dk_42 (dk_at dksX6_readMirror_0 0 rfl rfl)
theorem dX6_readMirror_1 : decode cX6_readMirror 1 = .ok (.iconst 0, 1) := dk_3 (dk_at dksX6_readMirror_0 1 rfl rfl)
theorem dX6_readMirror_2 : decode cX6_readMirror 2 = .ok (.iconst 1, 1) := dk_4 (dk_at dksX6_readMirror_0 2 rfl rfl)
theorem dX6_readMirror_3 : decode cX6_readMirror 3 = .ok (.invokevirtual 223, 3) := dk_182 0 223 (dk_at dksX6_readMirror_0 3 rfl rfl)
theorem dX6_readMirror_6 : decode cX6_readMirror 6 = .ok (.aload_n 0, 1) := dk_42 (dk_at dksX6_readMirror_0 6 rfl rfl)
theorem dX6_readMirror_7 : decode cX6_readMirror 7 = .ok (.iconst 1, 1) := dk_4 (dk_at dksX6_readMirror_0 7 rfl rfl)
theorem dX6_readMirror_8 : decode cX6_readMirror 8 = .ok (.invokevirtual 184, 3) := dk_182 0 184 (dk_at dksX6_readMirror_0 8 rfl rfl)
theorem dX6_readMirror_11 : decode cX6_readMirror 11 = .ok (.istore_n 1, 1) := dk_60 (dk_at dksX6_readMirror_0 11 rfl rfl)
theorem dX6_readMirror_12 : decode cX6_readMirror 12 = .ok (.aload_n 0, 1) := dk_42 (dk_at dksX6_readMirror_0 12 rfl rfl)
theorem dX6_readMirror_13 : decode cX6_readMirror 13 = .ok (.getfield 81, 3) := dk_180 0 81 (dk_at dksX6_readMirror_0 13 rfl rfl)
theorem dX6_readMirror_16 : decode cX6_readMirror 16 = .ok (.iconst 5, 1) := dk_8 (dk_at dksX6_readMirror_0 16 rfl rfl)
theorem dX6_readMirror_17 : decode cX6_readMirror 17 = .ok (.if_icmp .eq 22, 3) := dk_159 0 22 (dk_at dksX6_readMirror_0 17 rfl rfl)
theorem dX6_readMirror_20 : decode cX6_readMirror 20 = .ok (.aload_n 0, 1) := dk_42 (dk_at dksX6_readMirror_0 20 rfl rfl)
theorem dX6_readMirror_21 : decode cX6_readMirror 21 = .ok (.getfield 155, 3) := dk_180 0 155 (dk_at dksX6_readMirror_0 21 rfl rfl)
theorem dX6_readMirror_24 : decode cX6_readMirror 24 = .ok (.getfield 266, 3) := dk_180 1 10 (dk_at dksX6_readMirror_1 0 rfl rfl)
theorem dX6_readMirror_27 : decode cX6_readMirror 27 = .ok (.iload_n 1, 1) := dk_27 (dk_at dksX6_readMirror_1 3 rfl rfl)
theorem dX6_readMirror_28 : decode cX6_readMirror 28 = .ok (.iaload, 1) := dk_46 (dk_at dksX6_readMirror_1 4 rfl rfl)
theorem dX6_readMirror_29 : decode cX6_readMirror 29 = .ok (.bipush (-2), 2) := dk_16 254 (dk_at dksX6_readMirror_1 5 rfl rfl)
theorem dX6_readMirror_31 : decode cX6_readMirror 31 = .ok (.if_icmp .eq 8, 3) := dk_159 0 8 (dk_at dksX6_readMirror_1 7 rfl rfl)
theorem dX6_readMirror_34 : decode cX6_readMirror 34 = .ok (.aload_n 0, 1) := dk_42 (dk_at dksX6_readMirror_1 10 rfl rfl)
theorem dX6_readMirror_35 : decode cX6_readMirror 35 = .ok (.iconst 3, 1) := dk_6 (dk_at dksX6_readMirror_1 11 rfl rfl)
theorem dX6_readMirror_36 : decode cX6_readMirror 36 = .ok (.invokevirtual 124, 3) := dk_182 0 124 (dk_at dksX6_readMirror_1 12 rfl rfl)
theorem dX6_readMirror_39 : decode cX6_readMirror 39 = .ok (.aload_n 0, 1) := dk_42 (dk_at dksX6_readMirror_1 15 rfl rfl)
theorem dX6_readMirror_40 : decode cX6_readMirror 40 = .ok (.invokevirtual 117, 3) := dk_182 0 117 (dk_at dksX6_readMirror_1 16 rfl rfl)
theorem dX6_readMirror_43 : decode cX6_readMirror 43 = .ok (.aload_n 0, 1) := dk_42 (dk_at dksX6_readMirror_1 19 rfl rfl)
theorem dX6_readMirror_44 : decode cX6_readMirror 44 = .ok (.iconst 0, 1) := dk_3 (dk_at dksX6_readMirror_1 20 rfl rfl)
theorem dX6_readMirror_45 : decode cX6_readMirror 45 = .ok (.aload_n 0, 1) := dk_42 (dk_at dksX6_readMirror_1 21 rfl rfl)
theorem dX6_readMirror_46 : decode cX6_readMirror 46 = .ok (.getfield 155, 3) := dk_180 0 155 (dk_at dksX6_readMirror_2 0 rfl rfl)
theorem dX6_readMirror_49 : decode cX6_readMirror 49 = .ok (.getfield 159, 3) := dk_180 0 159 (dk_at dksX6_readMirror_2 3 rfl rfl)
theorem dX6_readMirror_52 : decode cX6_readMirror 52 = .ok (.iconst 1, 1) := dk_4 (dk_at dksX6_readMirror_2 6 rfl rfl)
theorem dX6_readMirror_53 : decode cX6_readMirror 53 = .ok (.isub, 1) := dk_100 (dk_at dksX6_readMirror_2 7 rfl rfl)
theorem dX6_readMirror_54 : decode cX6_readMirror 54 = .ok (.invokevirtual 140, 3) := dk_182 0 140 (dk_at dksX6_readMirror_2 8 rfl rfl)
theorem dX6_readMirror_57 : decode cX6_readMirror 57 = .ok (.istore_n 2, 1) := dk_61 (dk_at dksX6_readMirror_2 11 rfl rfl)
theorem dX6_readMirror_58 : decode cX6_readMirror 58 = .ok (.aload_n 0, 1) := dk_42 (dk_at dksX6_readMirror_2 12 rfl rfl)
theorem dX6_readMirror_59 : decode cX6_readMirror 59 = .ok (.getfield 81, 3) := dk_180 0 81 (dk_at dksX6_readMirror_2 13 rfl rfl)
theorem dX6_readMirror_62 : decode cX6_readMirror 62 = .ok (.iconst 5, 1) := dk_8 (dk_at dksX6_readMirror_2 16 rfl rfl)
theorem dX6_readMirror_63 : decode cX6_readMirror 63 = .ok (.if_icmp .eq 13, 3) := dk_159 0 13 (dk_at dksX6_readMirror_2 17 rfl rfl)
theorem dX6_readMirror_66 : decode cX6_readMirror 66 = .ok (.aload_n 0, 1) := dk_42 (dk_at dksX6_readMirror_2 20 rfl rfl)
theorem dX6_readMirror_67 : decode cX6_readMirror 67 = .ok (.getfield 155, 3) := dk_180 0 155 (dk_at dksX6_readMirror_2 21 rfl rfl)
theorem dX6_readMirror_70 : decode cX6_readMirror 70 = .ok (.getfield 266, 3) := dk_180 1 10 (dk_at dksX6_readMirror_3 0 rfl rfl)
theorem dX6_readMirror_73 : decode cX6_readMirror 73 = .ok (.iload_n 1, 1) := dk_27 (dk_at dksX6_readMirror_3 3 rfl rfl)
theorem dX6_readMirror_74 : decode cX6_readMirror 74 = .ok (.iload_n 2, 1) := dk_28 (dk_at dksX6_readMirror_3 4 rfl rfl)
theorem dX6_readMirror_75 : decode cX6_readMirror 75 = .ok (.iastore, 1) := dk_79 (dk_at dksX6_readMirror_3 5 rfl rfl)
theorem dX6_readMirror_76 : decode cX6_readMirror 76 = .ok (.return_, 1) := dk_177 (dk_at dksX6_readMirror_3 6 rfl rfl)
abbrev cX6_readUnsure : ByteArray := prog_15_method_37_code
def yX6_readUnsure : MethodName := ⟨RX6, "readUnsure", "()V"⟩
def dkwX6_readUnsure_4 : List UInt8 := [42, 180, 0, 155, 89, 180, 1, 12, 4, 96, 181, 1, 12, 177]
abbrev dktX6_readUnsure_4 : List UInt8 := dkwX6_readUnsure_4 ++ []
def dkwX6_readUnsure_3 : List UInt8 := [180, 0, 155, 180, 1, 12, 27, 79, 42, 180, 0, 155, 180, 1, 20, 42, 180, 0, 155, 180, 1, 12, 28, 79]
abbrev dktX6_readUnsure_3 : List UInt8 := dkwX6_readUnsure_3 ++ dktX6_readUnsure_4
def dkwX6_readUnsure_2 : List UInt8 := [3, 16, 39, 182, 0, 140, 61, 42, 180, 0, 81, 8, 160, 0, 4, 177, 42, 180, 0, 155, 180, 1, 18, 42]
abbrev dktX6_readUnsure_2 : List UInt8 := dkwX6_readUnsure_2 ++ dktX6_readUnsure_3
def dkwX6_readUnsure_1 : List UInt8 := [159, 0, 19, 42, 180, 0, 155, 27, 182, 1, 15, 153, 0, 8, 42, 6, 182, 0, 124, 42, 182, 0, 117, 42]
abbrev dktX6_readUnsure_1 : List UInt8 := dkwX6_readUnsure_1 ++ dktX6_readUnsure_2
def dkwX6_readUnsure_0 : List UInt8 := [42, 42, 180, 0, 155, 180, 1, 12, 7, 182, 0, 223, 42, 4, 182, 0, 184, 60, 42, 180, 0, 81, 8]
abbrev dktX6_readUnsure_0 : List UInt8 := dkwX6_readUnsure_0 ++ dktX6_readUnsure_1
theorem dksX6_readUnsure_0 : cX6_readUnsure.data.toList.drop 0 = dktX6_readUnsure_0 := by decide +kernel
theorem dksX6_readUnsure_1 : cX6_readUnsure.data.toList.drop 23 = dktX6_readUnsure_1 := dk_seg dksX6_readUnsure_0 23 rfl rfl
theorem dksX6_readUnsure_2 : cX6_readUnsure.data.toList.drop 47 = dktX6_readUnsure_2 := dk_seg dksX6_readUnsure_1 24 rfl rfl
theorem dksX6_readUnsure_3 : cX6_readUnsure.data.toList.drop 71 = dktX6_readUnsure_3 := dk_seg dksX6_readUnsure_2 24 rfl rfl
theorem dksX6_readUnsure_4 : cX6_readUnsure.data.toList.drop 95 = dktX6_readUnsure_4 := dk_seg dksX6_readUnsure_3 24 rfl rfl
theorem dX6_readUnsure_0 : decode cX6_readUnsure 0 = .ok (.aload_n 0, 1) := dk_42 (dk_at dksX6_readUnsure_0 0 rfl rfl)
theorem dX6_readUnsure_1 : decode cX6_readUnsure 1 = .ok (.aload_n 0, 1) := dk_42 (dk_at dksX6_readUnsure_0 1 rfl rfl)
theorem dX6_readUnsure_2 : decode cX6_readUnsure 2 = .ok (.getfield 155, 3) := dk_180 0 155 (dk_at dksX6_readUnsure_0 2 rfl rfl)
theorem dX6_readUnsure_5 : decode cX6_readUnsure 5 = .ok (.getfield 268, 3) := dk_180 1 12 (dk_at dksX6_readUnsure_0 5 rfl rfl)
theorem dX6_readUnsure_8 : decode cX6_readUnsure 8 = .ok (.iconst 4, 1) := dk_7 (dk_at dksX6_readUnsure_0 8 rfl rfl)
theorem dX6_readUnsure_9 : decode cX6_readUnsure 9 = .ok (.invokevirtual 223, 3) := dk_182 0 223 (dk_at dksX6_readUnsure_0 9 rfl rfl)
theorem dX6_readUnsure_12 : decode cX6_readUnsure 12 = .ok (.aload_n 0, 1) := dk_42 (dk_at dksX6_readUnsure_0 12 rfl rfl)
theorem dX6_readUnsure_13 : decode cX6_readUnsure 13 = .ok (.iconst 1, 1) := dk_4 (dk_at dksX6_readUnsure_0 13 rfl rfl)
theorem dX6_readUnsure_14 : decode cX6_readUnsure 14 = .ok (.invokevirtual 184, 3) := dk_182 0 184 (dk_at dksX6_readUnsure_0 14 rfl rfl)
theorem dX6_readUnsure_17 : decode cX6_readUnsure 17 = .ok (.istore_n 1, 1) := dk_60 (dk_at dksX6_readUnsure_0 17 rfl rfl)
theorem dX6_readUnsure_18 : decode cX6_readUnsure 18 = .ok (.aload_n 0, 1) := dk_42 (dk_at dksX6_readUnsure_0 18 rfl rfl)
theorem dX6_readUnsure_19 : decode cX6_readUnsure 19 = .ok (.getfield 81, 3) := dk_180 0 81 (dk_at dksX6_readUnsure_0 19 rfl rfl)
theorem dX6_readUnsure_22 : decode cX6_readUnsure 22 = .ok (.iconst 5, 1) := dk_8 (dk_at dksX6_readUnsure_0 22 rfl rfl)
theorem dX6_readUnsure_23 : decode cX6_readUnsure 23 = .ok (.if_icmp .eq 19, 3) := dk_159 0 19 (dk_at dksX6_readUnsure_1 0 rfl rfl)
theorem dX6_readUnsure_26 : decode cX6_readUnsure 26 = .ok (.aload_n 0, 1) := dk_42 (dk_at dksX6_readUnsure_1 3 rfl rfl)
theorem dX6_readUnsure_27 : decode cX6_readUnsure 27 = .ok (.getfield 155, 3) := dk_180 0 155 (dk_at dksX6_readUnsure_1 4 rfl rfl)
theorem dX6_readUnsure_30 : decode cX6_readUnsure 30 = .ok (.iload_n 1, 1) := dk_27 (dk_at dksX6_readUnsure_1 7 rfl rfl)
theorem dX6_readUnsure_31 : decode cX6_readUnsure 31 = .ok (.invokevirtual 271, 3) := dk_182 1 15 (dk_at dksX6_readUnsure_1 8 rfl rfl)
theorem dX6_readUnsure_34 : decode cX6_readUnsure 34 = .ok (.ifCond .eq 8, 3) := dk_153 0 8 (dk_at dksX6_readUnsure_1 11 rfl rfl)
theorem dX6_readUnsure_37 : decode cX6_readUnsure 37 = .ok (.aload_n 0, 1) := dk_42 (dk_at dksX6_readUnsure_1 14 rfl rfl)
theorem dX6_readUnsure_38 : decode cX6_readUnsure 38 = .ok (.iconst 3, 1) := dk_6 (dk_at dksX6_readUnsure_1 15 rfl rfl)
theorem dX6_readUnsure_39 : decode cX6_readUnsure 39 = .ok (.invokevirtual 124, 3) := dk_182 0 124 (dk_at dksX6_readUnsure_1 16 rfl rfl)
theorem dX6_readUnsure_42 : decode cX6_readUnsure 42 = .ok (.aload_n 0, 1) := dk_42 (dk_at dksX6_readUnsure_1 19 rfl rfl)
theorem dX6_readUnsure_43 : decode cX6_readUnsure 43 = .ok (.invokevirtual 117, 3) := dk_182 0 117 (dk_at dksX6_readUnsure_1 20 rfl rfl)
theorem dX6_readUnsure_46 : decode cX6_readUnsure 46 = .ok (.aload_n 0, 1) := dk_42 (dk_at dksX6_readUnsure_1 23 rfl rfl)
theorem dX6_readUnsure_47 : decode cX6_readUnsure 47 = .ok (.iconst 0, 1) := dk_3 (dk_at dksX6_readUnsure_2 0 rfl rfl)
theorem dX6_readUnsure_48 : decode cX6_readUnsure 48 = .ok (.bipush 39, 2) := dk_16 39 (dk_at dksX6_readUnsure_2 1 rfl rfl)
theorem dX6_readUnsure_50 : decode cX6_readUnsure 50 = .ok (.invokevirtual 140, 3) := dk_182 0 140 (dk_at dksX6_readUnsure_2 3 rfl rfl)
theorem dX6_readUnsure_53 : decode cX6_readUnsure 53 = .ok (.istore_n 2, 1) := dk_61 (dk_at dksX6_readUnsure_2 6 rfl rfl)
theorem dX6_readUnsure_54 : decode cX6_readUnsure 54 = .ok (.aload_n 0, 1) := dk_42 (dk_at dksX6_readUnsure_2 7 rfl rfl)
theorem dX6_readUnsure_55 : decode cX6_readUnsure 55 = .ok (.getfield 81, 3) := dk_180 0 81 (dk_at dksX6_readUnsure_2 8 rfl rfl)
theorem dX6_readUnsure_58 : decode cX6_readUnsure 58 = .ok (.iconst 5, 1) := dk_8 (dk_at dksX6_readUnsure_2 11 rfl rfl)
theorem dX6_readUnsure_59 : decode cX6_readUnsure 59 = .ok (.if_icmp .ne 4, 3) := dk_160 0 4 (dk_at dksX6_readUnsure_2 12 rfl rfl)
theorem dX6_readUnsure_62 : decode cX6_readUnsure 62 = .ok (.return_, 1) := dk_177 (dk_at dksX6_readUnsure_2 15 rfl rfl)
theorem dX6_readUnsure_63 : decode cX6_readUnsure 63 = .ok (.aload_n 0, 1) := dk_42 (dk_at dksX6_readUnsure_2 16 rfl rfl)
theorem dX6_readUnsure_64 : decode cX6_readUnsure 64 = .ok (.getfield 155, 3) := dk_180 0 155 (dk_at dksX6_readUnsure_2 17 rfl rfl)
theorem dX6_readUnsure_67 : decode cX6_readUnsure 67 = .ok (.getfield 274, 3) := dk_180 1 18 (dk_at dksX6_readUnsure_2 20 rfl rfl)
theorem dX6_readUnsure_70 : decode cX6_readUnsure 70 = .ok (.aload_n 0, 1) := dk_42 (dk_at dksX6_readUnsure_2 23 rfl rfl)
theorem dX6_readUnsure_71 : decode cX6_readUnsure 71 = .ok (.getfield 155, 3) := dk_180 0 155 (dk_at dksX6_readUnsure_3 0 rfl rfl)
theorem dX6_readUnsure_74 : decode cX6_readUnsure 74 = .ok (.getfield 268, 3) := dk_180 1 12 (dk_at dksX6_readUnsure_3 3 rfl rfl)
theorem dX6_readUnsure_77 : decode cX6_readUnsure 77 = .ok (.iload_n 1, 1) := dk_27 (dk_at dksX6_readUnsure_3 6 rfl rfl)
theorem dX6_readUnsure_78 : decode cX6_readUnsure 78 = .ok (.iastore, 1) := dk_79 (dk_at dksX6_readUnsure_3 7 rfl rfl)
theorem dX6_readUnsure_79 : decode cX6_readUnsure 79 = .ok (.aload_n 0, 1) := dk_42 (dk_at dksX6_readUnsure_3 8 rfl rfl)
theorem dX6_readUnsure_80 : decode cX6_readUnsure 80 = .ok (.getfield 155, 3) := dk_180 0 155 (dk_at dksX6_readUnsure_3 9 rfl rfl)
theorem dX6_readUnsure_83 : decode cX6_readUnsure 83 = .ok (.getfield 276, 3) := dk_180 1 20 (dk_at dksX6_readUnsure_3 12 rfl rfl)
theorem dX6_readUnsure_86 : decode cX6_readUnsure 86 = .ok (.aload_n 0, 1) := dk_42 (dk_at dksX6_readUnsure_3 15 rfl rfl)
theorem dX6_readUnsure_87 : decode cX6_readUnsure 87 = .ok (.getfield 155, 3) := dk_180 0 155 (dk_at dksX6_readUnsure_3 16 rfl rfl)
theorem dX6_readUnsure_90 : decode cX6_readUnsure 90 = .ok (.getfield 268, 3) := dk_180 1 12 (dk_at dksX6_readUnsure_3 19 rfl rfl)
theorem dX6_readUnsure_93 : decode cX6_readUnsure 93 = .ok (.iload_n 2, 1) := dk_28 (dk_at dksX6_readUnsure_3 22 rfl rfl)
theorem dX6_readUnsure_94 : decode cX6_readUnsure 94 = .ok (.iastore, 1) := dk_79 (dk_at dksX6_readUnsure_3 23 rfl rfl)
theorem dX6_readUnsure_95 : decode cX6_readUnsure 95 = .ok (.aload_n 0, 1) := dk_42 (dk_at dksX6_readUnsure_4 0 rfl rfl)
theorem dX6_readUnsure_96 : decode cX6_readUnsure 96 = .ok (.getfield 155, 3) := dk_180 0 155 (dk_at dksX6_readUnsure_4 1 rfl rfl)
theorem dX6_readUnsure_99 : decode cX6_readUnsure 99 = .ok (.dup, 1) := dk_89 (dk_at dksX6_readUnsure_4 4 rfl rfl)
theorem dX6_readUnsure_100 : decode cX6_readUnsure 100 = .ok (.getfield 268, 3) := dk_180 1 12 (dk_at dksX6_readUnsure_4 5 rfl rfl)
theorem dX6_readUnsure_103 : decode cX6_readUnsure 103 = .ok (.iconst 1, 1) := dk_4 (dk_at dksX6_readUnsure_4 8 rfl rfl)
theorem dX6_readUnsure_104 : decode cX6_readUnsure 104 = .ok (.iadd, 1) := dk_96 (dk_at dksX6_readUnsure_4 9 rfl rfl)
theorem dX6_readUnsure_105 : decode cX6_readUnsure 105 = .ok (.putfield 268, 3) := dk_181 1 12 (dk_at dksX6_readUnsure_4 10 rfl rfl)
theorem dX6_readUnsure_108 : decode cX6_readUnsure 108 = .ok (.return_, 1) := dk_177 (dk_at dksX6_readUnsure_4 13 rfl rfl)
abbrev cX6_readHeard : ByteArray := prog_15_method_38_code
def yX6_readHeard : MethodName := ⟨RX6, "readHeard", "()V"⟩
def dkwX6_readHeard_5 : List UInt8 := [180, 0, 155, 180, 1, 23, 29, 79, 42, 180, 0, 155, 89, 180, 1, 23, 4, 96, 181, 1, 23, 177]
abbrev dktX6_readHeard_5 : List UInt8 := dkwX6_readHeard_5 ++ []
def dkwX6_readHeard_4 : List UInt8 := [42, 180, 0, 155, 180, 1, 35, 42, 180, 0, 155, 180, 1, 23, 28, 79, 42, 180, 0, 155, 180, 1, 37, 42]
abbrev dktX6_readHeard_4 : List UInt8 := dkwX6_readHeard_4 ++ dktX6_readHeard_5
def dkwX6_readHeard_3 : List UInt8 := [180, 0, 81, 8, 160, 0, 4, 177, 42, 180, 0, 155, 180, 1, 32, 42, 180, 0, 155, 180, 1, 23, 27, 79]
abbrev dktX6_readHeard_3 : List UInt8 := dkwX6_readHeard_3 ++ dktX6_readHeard_4
def dkwX6_readHeard_2 : List UInt8 := [42, 180, 0, 155, 28, 29, 182, 1, 28, 153, 0, 8, 42, 6, 182, 0, 124, 42, 182, 0, 117, 42]
abbrev dktX6_readHeard_2 : List UInt8 := dkwX6_readHeard_2 ++ dktX6_readHeard_3
def dkwX6_readHeard_1 : List UInt8 := [61, 42, 19, 1, 26, 182, 0, 136, 42, 3, 16, 60, 182, 0, 132, 62, 42, 180, 0, 81, 8, 159, 0, 20]
abbrev dktX6_readHeard_1 : List UInt8 := dkwX6_readHeard_1 ++ dktX6_readHeard_2
def dkwX6_readHeard_0 : List UInt8 := [42, 42, 180, 0, 155, 180, 1, 23, 16, 8, 182, 0, 223, 42, 3, 182, 0, 255, 60, 42, 4, 182, 0, 255]
abbrev dktX6_readHeard_0 : List UInt8 := dkwX6_readHeard_0 ++ dktX6_readHeard_1
theorem dksX6_readHeard_0 : cX6_readHeard.data.toList.drop 0 = dktX6_readHeard_0 := by decide +kernel
theorem dksX6_readHeard_1 : cX6_readHeard.data.toList.drop 24 = dktX6_readHeard_1 := dk_seg dksX6_readHeard_0 24 rfl rfl
theorem dksX6_readHeard_2 : cX6_readHeard.data.toList.drop 48 = dktX6_readHeard_2 := dk_seg dksX6_readHeard_1 24 rfl rfl
theorem dksX6_readHeard_3 : cX6_readHeard.data.toList.drop 70 = dktX6_readHeard_3 := dk_seg dksX6_readHeard_2 22 rfl rfl
theorem dksX6_readHeard_4 : cX6_readHeard.data.toList.drop 94 = dktX6_readHeard_4 := dk_seg dksX6_readHeard_3 24 rfl rfl
theorem dksX6_readHeard_5 : cX6_readHeard.data.toList.drop 118 = dktX6_readHeard_5 := dk_seg dksX6_readHeard_4 24 rfl rfl
theorem dX6_readHeard_0 : decode cX6_readHeard 0 = .ok (.aload_n 0, 1) := dk_42 (dk_at dksX6_readHeard_0 0 rfl rfl)
theorem dX6_readHeard_1 : decode cX6_readHeard 1 = .ok (.aload_n 0, 1) := dk_42 (dk_at dksX6_readHeard_0 1 rfl rfl)
theorem dX6_readHeard_2 : decode cX6_readHeard 2 = .ok (.getfield 155, 3) := dk_180 0 155 (dk_at dksX6_readHeard_0 2 rfl rfl)
theorem dX6_readHeard_5 : decode cX6_readHeard 5 = .ok (.getfield 279, 3) := dk_180 1 23 (dk_at dksX6_readHeard_0 5 rfl rfl)
theorem dX6_readHeard_8 : decode cX6_readHeard 8 = .ok (.bipush 8, 2) := dk_16 8 (dk_at dksX6_readHeard_0 8 rfl rfl)
theorem dX6_readHeard_10 : decode cX6_readHeard 10 = .ok (.invokevirtual 223, 3) := dk_182 0 223 (dk_at dksX6_readHeard_0 10 rfl rfl)
theorem dX6_readHeard_13 : decode cX6_readHeard 13 = .ok (.aload_n 0, 1) := dk_42 (dk_at dksX6_readHeard_0 13 rfl rfl)
theorem dX6_readHeard_14 : decode cX6_readHeard 14 = .ok (.iconst 0, 1) := dk_3 (dk_at dksX6_readHeard_0 14 rfl rfl)
theorem dX6_readHeard_15 : decode cX6_readHeard 15 = .ok (.invokevirtual 255, 3) := dk_182 0 255 (dk_at dksX6_readHeard_0 15 rfl rfl)
theorem dX6_readHeard_18 : decode cX6_readHeard 18 = .ok (.istore_n 1, 1) := dk_60 (dk_at dksX6_readHeard_0 18 rfl rfl)
theorem dX6_readHeard_19 : decode cX6_readHeard 19 = .ok (.aload_n 0, 1) := dk_42 (dk_at dksX6_readHeard_0 19 rfl rfl)
theorem dX6_readHeard_20 : decode cX6_readHeard 20 = .ok (.iconst 1, 1) := dk_4 (dk_at dksX6_readHeard_0 20 rfl rfl)
theorem dX6_readHeard_21 : decode cX6_readHeard 21 = .ok (.invokevirtual 255, 3) := dk_182 0 255 (dk_at dksX6_readHeard_0 21 rfl rfl)
theorem dX6_readHeard_24 : decode cX6_readHeard 24 = .ok (.istore_n 2, 1) := dk_61 (dk_at dksX6_readHeard_1 0 rfl rfl)
theorem dX6_readHeard_25 : decode cX6_readHeard 25 = .ok (.aload_n 0, 1) := dk_42 (dk_at dksX6_readHeard_1 1 rfl rfl)
theorem dX6_readHeard_26 : decode cX6_readHeard 26 = .ok (.ldc_w 282, 3) := dk_19 1 26 (dk_at dksX6_readHeard_1 2 rfl rfl)
theorem dX6_readHeard_29 : decode cX6_readHeard 29 = .ok (.invokevirtual 136, 3) := dk_182 0 136 (dk_at dksX6_readHeard_1 5 rfl rfl)
theorem dX6_readHeard_32 : decode cX6_readHeard 32 = .ok (.aload_n 0, 1) := dk_42 (dk_at dksX6_readHeard_1 8 rfl rfl)
theorem dX6_readHeard_33 : decode cX6_readHeard 33 = .ok (.iconst 0, 1) := dk_3 (dk_at dksX6_readHeard_1 9 rfl rfl)
theorem dX6_readHeard_34 : decode cX6_readHeard 34 = .ok (.bipush 60, 2) := dk_16 60 (dk_at dksX6_readHeard_1 10 rfl rfl)
theorem dX6_readHeard_36 : decode cX6_readHeard 36 = .ok (.invokevirtual 132, 3) := dk_182 0 132 (dk_at dksX6_readHeard_1 12 rfl rfl)
theorem dX6_readHeard_39 : decode cX6_readHeard 39 = .ok (.istore_n 3, 1) := dk_62 (dk_at dksX6_readHeard_1 15 rfl rfl)
theorem dX6_readHeard_40 : decode cX6_readHeard 40 = .ok (.aload_n 0, 1) := dk_42 (dk_at dksX6_readHeard_1 16 rfl rfl)
theorem dX6_readHeard_41 : decode cX6_readHeard 41 = .ok (.getfield 81, 3) := dk_180 0 81 (dk_at dksX6_readHeard_1 17 rfl rfl)
theorem dX6_readHeard_44 : decode cX6_readHeard 44 = .ok (.iconst 5, 1) := dk_8 (dk_at dksX6_readHeard_1 20 rfl rfl)
theorem dX6_readHeard_45 : decode cX6_readHeard 45 = .ok (.if_icmp .eq 20, 3) := dk_159 0 20 (dk_at dksX6_readHeard_1 21 rfl rfl)
theorem dX6_readHeard_48 : decode cX6_readHeard 48 = .ok (.aload_n 0, 1) := dk_42 (dk_at dksX6_readHeard_2 0 rfl rfl)
theorem dX6_readHeard_49 : decode cX6_readHeard 49 = .ok (.getfield 155, 3) := dk_180 0 155 (dk_at dksX6_readHeard_2 1 rfl rfl)
theorem dX6_readHeard_52 : decode cX6_readHeard 52 = .ok (.iload_n 2, 1) := dk_28 (dk_at dksX6_readHeard_2 4 rfl rfl)
theorem dX6_readHeard_53 : decode cX6_readHeard 53 = .ok (.iload_n 3, 1) := dk_29 (dk_at dksX6_readHeard_2 5 rfl rfl)
theorem dX6_readHeard_54 : decode cX6_readHeard 54 = .ok (.invokevirtual 284, 3) := dk_182 1 28 (dk_at dksX6_readHeard_2 6 rfl rfl)
theorem dX6_readHeard_57 : decode cX6_readHeard 57 = .ok (.ifCond .eq 8, 3) := dk_153 0 8 (dk_at dksX6_readHeard_2 9 rfl rfl)
theorem dX6_readHeard_60 : decode cX6_readHeard 60 = .ok (.aload_n 0, 1) := dk_42 (dk_at dksX6_readHeard_2 12 rfl rfl)
theorem dX6_readHeard_61 : decode cX6_readHeard 61 = .ok (.iconst 3, 1) := dk_6 (dk_at dksX6_readHeard_2 13 rfl rfl)
theorem dX6_readHeard_62 : decode cX6_readHeard 62 = .ok (.invokevirtual 124, 3) := dk_182 0 124 (dk_at dksX6_readHeard_2 14 rfl rfl)
theorem dX6_readHeard_65 : decode cX6_readHeard 65 = .ok (.aload_n 0, 1) := dk_42 (dk_at dksX6_readHeard_2 17 rfl rfl)
theorem dX6_readHeard_66 : decode cX6_readHeard 66 = .ok (.invokevirtual 117, 3) := dk_182 0 117 (dk_at dksX6_readHeard_2 18 rfl rfl)
theorem dX6_readHeard_69 : decode cX6_readHeard 69 = .ok (.aload_n 0, 1) := dk_42 (dk_at dksX6_readHeard_2 21 rfl rfl)
theorem dX6_readHeard_70 : decode cX6_readHeard 70 = .ok (.getfield 81, 3) := dk_180 0 81 (dk_at dksX6_readHeard_3 0 rfl rfl)
theorem dX6_readHeard_73 : decode cX6_readHeard 73 = .ok (.iconst 5, 1) := dk_8 (dk_at dksX6_readHeard_3 3 rfl rfl)
theorem dX6_readHeard_74 : decode cX6_readHeard 74 = .ok (.if_icmp .ne 4, 3) := dk_160 0 4 (dk_at dksX6_readHeard_3 4 rfl rfl)
theorem dX6_readHeard_77 : decode cX6_readHeard 77 = .ok (.return_, 1) := dk_177 (dk_at dksX6_readHeard_3 7 rfl rfl)
theorem dX6_readHeard_78 : decode cX6_readHeard 78 = .ok (.aload_n 0, 1) := dk_42 (dk_at dksX6_readHeard_3 8 rfl rfl)
theorem dX6_readHeard_79 : decode cX6_readHeard 79 = .ok (.getfield 155, 3) := dk_180 0 155 (dk_at dksX6_readHeard_3 9 rfl rfl)
theorem dX6_readHeard_82 : decode cX6_readHeard 82 = .ok (.getfield 288, 3) := dk_180 1 32 (dk_at dksX6_readHeard_3 12 rfl rfl)
theorem dX6_readHeard_85 : decode cX6_readHeard 85 = .ok (.aload_n 0, 1) := dk_42 (dk_at dksX6_readHeard_3 15 rfl rfl)
theorem dX6_readHeard_86 : decode cX6_readHeard 86 = .ok (.getfield 155, 3) := dk_180 0 155 (dk_at dksX6_readHeard_3 16 rfl rfl)
theorem dX6_readHeard_89 : decode cX6_readHeard 89 = .ok (.getfield 279, 3) := dk_180 1 23 (dk_at dksX6_readHeard_3 19 rfl rfl)
theorem dX6_readHeard_92 : decode cX6_readHeard 92 = .ok (.iload_n 1, 1) := dk_27 (dk_at dksX6_readHeard_3 22 rfl rfl)
theorem dX6_readHeard_93 : decode cX6_readHeard 93 = .ok (.iastore, 1) := dk_79 (dk_at dksX6_readHeard_3 23 rfl rfl)
theorem dX6_readHeard_94 : decode cX6_readHeard 94 = .ok (.aload_n 0, 1) := dk_42 (dk_at dksX6_readHeard_4 0 rfl rfl)
theorem dX6_readHeard_95 : decode cX6_readHeard 95 = .ok (.getfield 155, 3) := dk_180 0 155 (dk_at dksX6_readHeard_4 1 rfl rfl)
theorem dX6_readHeard_98 : decode cX6_readHeard 98 = .ok (.getfield 291, 3) := dk_180 1 35 (dk_at dksX6_readHeard_4 4 rfl rfl)
theorem dX6_readHeard_101 : decode cX6_readHeard 101 = .ok (.aload_n 0, 1) := dk_42 (dk_at dksX6_readHeard_4 7 rfl rfl)
theorem dX6_readHeard_102 : decode cX6_readHeard 102 = .ok (.getfield 155, 3) := dk_180 0 155 (dk_at dksX6_readHeard_4 8 rfl rfl)
theorem dX6_readHeard_105 : decode cX6_readHeard 105 = .ok (.getfield 279, 3) := dk_180 1 23 (dk_at dksX6_readHeard_4 11 rfl rfl)
theorem dX6_readHeard_108 : decode cX6_readHeard 108 = .ok (.iload_n 2, 1) := dk_28 (dk_at dksX6_readHeard_4 14 rfl rfl)
theorem dX6_readHeard_109 : decode cX6_readHeard 109 = .ok (.iastore, 1) := dk_79 (dk_at dksX6_readHeard_4 15 rfl rfl)
theorem dX6_readHeard_110 : decode cX6_readHeard 110 = .ok (.aload_n 0, 1) := dk_42 (dk_at dksX6_readHeard_4 16 rfl rfl)
theorem dX6_readHeard_111 : decode cX6_readHeard 111 = .ok (.getfield 155, 3) := dk_180 0 155 (dk_at dksX6_readHeard_4 17 rfl rfl)
theorem dX6_readHeard_114 : decode cX6_readHeard 114 = .ok (.getfield 293, 3) := dk_180 1 37 (dk_at dksX6_readHeard_4 20 rfl rfl)
theorem dX6_readHeard_117 : decode cX6_readHeard 117 = .ok (.aload_n 0, 1) := dk_42 (dk_at dksX6_readHeard_4 23 rfl rfl)
theorem dX6_readHeard_118 : decode cX6_readHeard 118 = .ok (.getfield 155, 3) := dk_180 0 155 (dk_at dksX6_readHeard_5 0 rfl rfl)
theorem dX6_readHeard_121 : decode cX6_readHeard 121 = .ok (.getfield 279, 3) := dk_180 1 23 (dk_at dksX6_readHeard_5 3 rfl rfl)
theorem dX6_readHeard_124 : decode cX6_readHeard 124 = .ok (.iload_n 3, 1) := dk_29 (dk_at dksX6_readHeard_5 6 rfl rfl)
theorem dX6_readHeard_125 : decode cX6_readHeard 125 = .ok (.iastore, 1) := dk_79 (dk_at dksX6_readHeard_5 7 rfl rfl)
theorem dX6_readHeard_126 : decode cX6_readHeard 126 = .ok (.aload_n 0, 1) := dk_42 (dk_at dksX6_readHeard_5 8 rfl rfl)
theorem dX6_readHeard_127 : decode cX6_readHeard 127 = .ok (.getfield 155, 3) := dk_180 0 155 (dk_at dksX6_readHeard_5 9 rfl rfl)
theorem dX6_readHeard_130 : decode cX6_readHeard 130 = .ok (.dup, 1) := dk_89 (dk_at dksX6_readHeard_5 12 rfl rfl)
theorem dX6_readHeard_131 : decode cX6_readHeard 131 = .ok (.getfield 279, 3) := dk_180 1 23 (dk_at dksX6_readHeard_5 13 rfl rfl)
theorem dX6_readHeard_134 : decode cX6_readHeard 134 = .ok (.iconst 1, 1) := dk_4 (dk_at dksX6_readHeard_5 16 rfl rfl)
theorem dX6_readHeard_135 : decode cX6_readHeard 135 = .ok (.iadd, 1) := dk_96 (dk_at dksX6_readHeard_5 17 rfl rfl)
theorem dX6_readHeard_136 : decode cX6_readHeard 136 = .ok (.putfield 279, 3) := dk_181 1 23 (dk_at dksX6_readHeard_5 18 rfl rfl)
theorem dX6_readHeard_139 : decode cX6_readHeard 139 = .ok (.return_, 1) := dk_177 (dk_at dksX6_readHeard_5 21 rfl rfl)
abbrev cX6_eatsSemicolon : ByteArray := prog_15_method_20_code
def yX6_eatsSemicolon : MethodName := ⟨RX6, "eatsSemicolon", "()Z"⟩
def dkwX6_eatsSemicolon_0 : List UInt8 := [42, 180, 0, 81, 7, 160, 0, 7, 4, 167, 0, 4, 3, 60, 27, 153, 0, 7, 42, 182, 0, 117, 27, 172]
abbrev dktX6_eatsSemicolon_0 : List UInt8 := dkwX6_eatsSemicolon_0 ++ []
theorem dksX6_eatsSemicolon_0 : cX6_eatsSemicolon.data.toList.drop 0 = dktX6_eatsSemicolon_0 := by decide +kernel
theorem dX6_eatsSemicolon_0 : decode cX6_eatsSemicolon 0 = .ok (.aload_n 0, 1) := dk_42 (dk_at dksX6_eatsSemicolon_0 0 rfl rfl)
theorem dX6_eatsSemicolon_1 : decode cX6_eatsSemicolon 1 = .ok (.getfield 81, 3) := dk_180 0 81 (dk_at dksX6_eatsSemicolon_0 1 rfl rfl)
theorem dX6_eatsSemicolon_4 : decode cX6_eatsSemicolon 4 = .ok (.iconst 4, 1) := dk_7 (dk_at dksX6_eatsSemicolon_0 4 rfl rfl)
theorem dX6_eatsSemicolon_5 : decode cX6_eatsSemicolon 5 = .ok (.if_icmp .ne 7, 3) := dk_160 0 7 (dk_at dksX6_eatsSemicolon_0 5 rfl rfl)
theorem dX6_eatsSemicolon_8 : decode cX6_eatsSemicolon 8 = .ok (.iconst 1, 1) := dk_4 (dk_at dksX6_eatsSemicolon_0 8 rfl rfl)
theorem dX6_eatsSemicolon_9 : decode cX6_eatsSemicolon 9 = .ok (.goto 4, 3) := dk_167 0 4 (dk_at dksX6_eatsSemicolon_0 9 rfl rfl)
theorem dX6_eatsSemicolon_12 : decode cX6_eatsSemicolon 12 = .ok (.iconst 0, 1) := dk_3 (dk_at dksX6_eatsSemicolon_0 12 rfl rfl)
theorem dX6_eatsSemicolon_13 : decode cX6_eatsSemicolon 13 = .ok (.istore_n 1, 1) := dk_60 (dk_at dksX6_eatsSemicolon_0 13 rfl rfl)
theorem dX6_eatsSemicolon_14 : decode cX6_eatsSemicolon 14 = .ok (.iload_n 1, 1) := dk_27 (dk_at dksX6_eatsSemicolon_0 14 rfl rfl)
theorem dX6_eatsSemicolon_15 : decode cX6_eatsSemicolon 15 = .ok (.ifCond .eq 7, 3) := dk_153 0 7 (dk_at dksX6_eatsSemicolon_0 15 rfl rfl)
theorem dX6_eatsSemicolon_18 : decode cX6_eatsSemicolon 18 = .ok (.aload_n 0, 1) := dk_42 (dk_at dksX6_eatsSemicolon_0 18 rfl rfl)
theorem dX6_eatsSemicolon_19 : decode cX6_eatsSemicolon 19 = .ok (.invokevirtual 117, 3) := dk_182 0 117 (dk_at dksX6_eatsSemicolon_0 19 rfl rfl)
theorem dX6_eatsSemicolon_22 : decode cX6_eatsSemicolon 22 = .ok (.iload_n 1, 1) := dk_27 (dk_at dksX6_eatsSemicolon_0 22 rfl rfl)
theorem dX6_eatsSemicolon_23 : decode cX6_eatsSemicolon 23 = .ok (.ireturn, 1) := dk_172 (dk_at dksX6_eatsSemicolon_0 23 rfl rfl)
abbrev cX6_asTold : ByteArray := prog_15_method_47_code
def yX6_asTold : MethodName := ⟨RX6, "asTold", "(I)V"⟩
def dkwX6_asTold_6 : List UInt8 := [180, 1, 20, 28, 46, 79, 132, 2, 1, 167, 255, 208, 177]
abbrev dktX6_asTold_6 : List UInt8 := dkwX6_asTold_6 ++ []
def dkwX6_asTold_5 : List UInt8 := [153, 0, 29, 42, 180, 0, 21, 16, 6, 42, 180, 1, 47, 180, 1, 18, 28, 46, 96, 42, 180, 1, 47]
abbrev dktX6_asTold_5 : List UInt8 := dkwX6_asTold_5 ++ dktX6_asTold_6
def dkwX6_asTold_4 : List UInt8 := [132, 2, 1, 167, 255, 211, 3, 61, 28, 42, 180, 1, 47, 180, 1, 12, 162, 0, 43, 27, 28, 184, 1, 58]
abbrev dktX6_asTold_4 : List UInt8 := dkwX6_asTold_4 ++ dktX6_asTold_5
def dkwX6_asTold_3 : List UInt8 := [180, 1, 5, 28, 46, 79, 42, 180, 0, 21, 16, 12, 28, 96, 42, 180, 1, 47, 180, 1, 10, 28, 46, 79]
abbrev dktX6_asTold_3 : List UInt8 := dkwX6_asTold_3 ++ dktX6_asTold_4
def dkwX6_asTold_2 : List UInt8 := [167, 255, 232, 3, 61, 28, 16, 6, 162, 0, 45, 42, 180, 0, 21, 16, 6, 28, 96, 42, 180, 1, 47]
abbrev dktX6_asTold_2 : List UInt8 := dkwX6_asTold_2 ++ dktX6_asTold_3
def dkwX6_asTold_1 : List UInt8 := [16, 6, 162, 0, 24, 42, 180, 0, 21, 28, 42, 180, 1, 47, 180, 0, 239, 28, 46, 79, 132, 2, 1]
abbrev dktX6_asTold_1 : List UInt8 := dkwX6_asTold_1 ++ dktX6_asTold_2
def dkwX6_asTold_0 : List UInt8 := [3, 61, 28, 16, 19, 162, 0, 16, 42, 180, 0, 21, 28, 3, 79, 132, 2, 1, 167, 255, 240, 3, 61, 28]
abbrev dktX6_asTold_0 : List UInt8 := dkwX6_asTold_0 ++ dktX6_asTold_1
theorem dksX6_asTold_0 : cX6_asTold.data.toList.drop 0 = dktX6_asTold_0 := by decide +kernel
theorem dksX6_asTold_1 : cX6_asTold.data.toList.drop 24 = dktX6_asTold_1 := dk_seg dksX6_asTold_0 24 rfl rfl
theorem dksX6_asTold_2 : cX6_asTold.data.toList.drop 47 = dktX6_asTold_2 := dk_seg dksX6_asTold_1 23 rfl rfl
theorem dksX6_asTold_3 : cX6_asTold.data.toList.drop 70 = dktX6_asTold_3 := dk_seg dksX6_asTold_2 23 rfl rfl
theorem dksX6_asTold_4 : cX6_asTold.data.toList.drop 94 = dktX6_asTold_4 := dk_seg dksX6_asTold_3 24 rfl rfl
theorem dksX6_asTold_5 : cX6_asTold.data.toList.drop 118 = dktX6_asTold_5 := dk_seg dksX6_asTold_4 24 rfl rfl
theorem dksX6_asTold_6 : cX6_asTold.data.toList.drop 141 = dktX6_asTold_6 := dk_seg dksX6_asTold_5 23 rfl rfl
theorem dX6_asTold_0 : decode cX6_asTold 0 = .ok (.iconst 0, 1) := dk_3 (dk_at dksX6_asTold_0 0 rfl rfl)
theorem dX6_asTold_1 : decode cX6_asTold 1 = .ok (.istore_n 2, 1) := dk_61 (dk_at dksX6_asTold_0 1 rfl rfl)
theorem dX6_asTold_2 : decode cX6_asTold 2 = .ok (.iload_n 2, 1) := dk_28 (dk_at dksX6_asTold_0 2 rfl rfl)
theorem dX6_asTold_3 : decode cX6_asTold 3 = .ok (.bipush 19, 2) := dk_16 19 (dk_at dksX6_asTold_0 3 rfl rfl)
theorem dX6_asTold_5 : decode cX6_asTold 5 = .ok (.if_icmp .ge 16, 3) := dk_162 0 16 (dk_at dksX6_asTold_0 5 rfl rfl)
theorem dX6_asTold_8 : decode cX6_asTold 8 = .ok (.aload_n 0, 1) := dk_42 (dk_at dksX6_asTold_0 8 rfl rfl)
theorem dX6_asTold_9 : decode cX6_asTold 9 = .ok (.getfield 21, 3) := dk_180 0 21 (dk_at dksX6_asTold_0 9 rfl rfl)
theorem dX6_asTold_12 : decode cX6_asTold 12 = .ok (.iload_n 2, 1) := dk_28 (dk_at dksX6_asTold_0 12 rfl rfl)
theorem dX6_asTold_13 : decode cX6_asTold 13 = .ok (.iconst 0, 1) := dk_3 (dk_at dksX6_asTold_0 13 rfl rfl)
theorem dX6_asTold_14 : decode cX6_asTold 14 = .ok (.iastore, 1) := dk_79 (dk_at dksX6_asTold_0 14 rfl rfl)
theorem dX6_asTold_15 : decode cX6_asTold 15 = .ok (.iinc 2 1, 3) := dk_132 2 1 (dk_at dksX6_asTold_0 15 rfl rfl)
theorem dX6_asTold_18 : decode cX6_asTold 18 = .ok (.goto (-16), 3) := dk_167 255 240 (dk_at dksX6_asTold_0 18 rfl rfl)
theorem dX6_asTold_21 : decode cX6_asTold 21 = .ok (.iconst 0, 1) := dk_3 (dk_at dksX6_asTold_0 21 rfl rfl)
theorem dX6_asTold_22 : decode cX6_asTold 22 = .ok (.istore_n 2, 1) := dk_61 (dk_at dksX6_asTold_0 22 rfl rfl)
theorem dX6_asTold_23 : decode cX6_asTold 23 = .ok (.iload_n 2, 1) := dk_28 (dk_at dksX6_asTold_0 23 rfl rfl)
theorem dX6_asTold_24 : decode cX6_asTold 24 = .ok (.bipush 6, 2) := dk_16 6 (dk_at dksX6_asTold_1 0 rfl rfl)
theorem dX6_asTold_26 : decode cX6_asTold 26 = .ok (.if_icmp .ge 24, 3) := dk_162 0 24 (dk_at dksX6_asTold_1 2 rfl rfl)
theorem dX6_asTold_29 : decode cX6_asTold 29 = .ok (.aload_n 0, 1) := dk_42 (dk_at dksX6_asTold_1 5 rfl rfl)
theorem dX6_asTold_30 : decode cX6_asTold 30 = .ok (.getfield 21, 3) := dk_180 0 21 (dk_at dksX6_asTold_1 6 rfl rfl)
theorem dX6_asTold_33 : decode cX6_asTold 33 = .ok (.iload_n 2, 1) := dk_28 (dk_at dksX6_asTold_1 9 rfl rfl)
theorem dX6_asTold_34 : decode cX6_asTold 34 = .ok (.aload_n 0, 1) := dk_42 (dk_at dksX6_asTold_1 10 rfl rfl)
theorem dX6_asTold_35 : decode cX6_asTold 35 = .ok (.getfield 303, 3) := dk_180 1 47 (dk_at dksX6_asTold_1 11 rfl rfl)
theorem dX6_asTold_38 : decode cX6_asTold 38 = .ok (.getfield 239, 3) := dk_180 0 239 (dk_at dksX6_asTold_1 14 rfl rfl)
theorem dX6_asTold_41 : decode cX6_asTold 41 = .ok (.iload_n 2, 1) := dk_28 (dk_at dksX6_asTold_1 17 rfl rfl)
theorem dX6_asTold_42 : decode cX6_asTold 42 = .ok (.iaload, 1) := dk_46 (dk_at dksX6_asTold_1 18 rfl rfl)
theorem dX6_asTold_43 : decode cX6_asTold 43 = .ok (.iastore, 1) := dk_79 (dk_at dksX6_asTold_1 19 rfl rfl)
theorem dX6_asTold_44 : decode cX6_asTold 44 = .ok (.iinc 2 1, 3) := dk_132 2 1 (dk_at dksX6_asTold_1 20 rfl rfl)
theorem dX6_asTold_47 : decode cX6_asTold 47 = .ok (.goto (-24), 3) := dk_167 255 232 (dk_at dksX6_asTold_2 0 rfl rfl)
theorem dX6_asTold_50 : decode cX6_asTold 50 = .ok (.iconst 0, 1) := dk_3 (dk_at dksX6_asTold_2 3 rfl rfl)
theorem dX6_asTold_51 : decode cX6_asTold 51 = .ok (.istore_n 2, 1) := dk_61 (dk_at dksX6_asTold_2 4 rfl rfl)
theorem dX6_asTold_52 : decode cX6_asTold 52 = .ok (.iload_n 2, 1) := dk_28 (dk_at dksX6_asTold_2 5 rfl rfl)
theorem dX6_asTold_53 : decode cX6_asTold 53 = .ok (.bipush 6, 2) := dk_16 6 (dk_at dksX6_asTold_2 6 rfl rfl)
theorem dX6_asTold_55 : decode cX6_asTold 55 = .ok (.if_icmp .ge 45, 3) := dk_162 0 45 (dk_at dksX6_asTold_2 8 rfl rfl)
theorem dX6_asTold_58 : decode cX6_asTold 58 = .ok (.aload_n 0, 1) := dk_42 (dk_at dksX6_asTold_2 11 rfl rfl)
theorem dX6_asTold_59 : decode cX6_asTold 59 = .ok (.getfield 21, 3) := dk_180 0 21 (dk_at dksX6_asTold_2 12 rfl rfl)
theorem dX6_asTold_62 : decode cX6_asTold 62 = .ok (.bipush 6, 2) := dk_16 6 (dk_at dksX6_asTold_2 15 rfl rfl)
theorem dX6_asTold_64 : decode cX6_asTold 64 = .ok (.iload_n 2, 1) := dk_28 (dk_at dksX6_asTold_2 17 rfl rfl)
theorem dX6_asTold_65 : decode cX6_asTold 65 = .ok (.iadd, 1) := dk_96 (dk_at dksX6_asTold_2 18 rfl rfl)
theorem dX6_asTold_66 : decode cX6_asTold 66 = .ok (.aload_n 0, 1) := dk_42 (dk_at dksX6_asTold_2 19 rfl rfl)
theorem dX6_asTold_67 : decode cX6_asTold 67 = .ok (.getfield 303, 3) := dk_180 1 47 (dk_at dksX6_asTold_2 20 rfl rfl)
theorem dX6_asTold_70 : decode cX6_asTold 70 = .ok (.getfield 261, 3) := dk_180 1 5 (dk_at dksX6_asTold_3 0 rfl rfl)
theorem dX6_asTold_73 : decode cX6_asTold 73 = .ok (.iload_n 2, 1) := dk_28 (dk_at dksX6_asTold_3 3 rfl rfl)
theorem dX6_asTold_74 : decode cX6_asTold 74 = .ok (.iaload, 1) := dk_46 (dk_at dksX6_asTold_3 4 rfl rfl)
theorem dX6_asTold_75 : decode cX6_asTold 75 = .ok (.iastore, 1) := dk_79 (dk_at dksX6_asTold_3 5 rfl rfl)
theorem dX6_asTold_76 : decode cX6_asTold 76 = .ok (.aload_n 0, 1) := dk_42 (dk_at dksX6_asTold_3 6 rfl rfl)
theorem dX6_asTold_77 : decode cX6_asTold 77 = .ok (.getfield 21, 3) := dk_180 0 21 (dk_at dksX6_asTold_3 7 rfl rfl)
theorem dX6_asTold_80 : decode cX6_asTold 80 = .ok (.bipush 12, 2) := dk_16 12 (dk_at dksX6_asTold_3 10 rfl rfl)
theorem dX6_asTold_82 : decode cX6_asTold 82 = .ok (.iload_n 2, 1) := dk_28 (dk_at dksX6_asTold_3 12 rfl rfl)
theorem dX6_asTold_83 : decode cX6_asTold 83 = .ok (.iadd, 1) := dk_96 (dk_at dksX6_asTold_3 13 rfl rfl)
theorem dX6_asTold_84 : decode cX6_asTold 84 = .ok (.aload_n 0, 1) := dk_42 (dk_at dksX6_asTold_3 14 rfl rfl)
theorem dX6_asTold_85 : decode cX6_asTold 85 = .ok (.getfield 303, 3) := dk_180 1 47 (dk_at dksX6_asTold_3 15 rfl rfl)
theorem dX6_asTold_88 : decode cX6_asTold 88 = .ok (.getfield 266, 3) := dk_180 1 10 (dk_at dksX6_asTold_3 18 rfl rfl)
theorem dX6_asTold_91 : decode cX6_asTold 91 = .ok (.iload_n 2, 1) := dk_28 (dk_at dksX6_asTold_3 21 rfl rfl)
theorem dX6_asTold_92 : decode cX6_asTold 92 = .ok (.iaload, 1) := dk_46 (dk_at dksX6_asTold_3 22 rfl rfl)
theorem dX6_asTold_93 : decode cX6_asTold 93 = .ok (.iastore, 1) := dk_79 (dk_at dksX6_asTold_3 23 rfl rfl)
theorem dX6_asTold_94 : decode cX6_asTold 94 = .ok (.iinc 2 1, 3) := dk_132 2 1 (dk_at dksX6_asTold_4 0 rfl rfl)
theorem dX6_asTold_97 : decode cX6_asTold 97 = .ok (.goto (-45), 3) := dk_167 255 211 (dk_at dksX6_asTold_4 3 rfl rfl)
theorem dX6_asTold_100 : decode cX6_asTold 100 = .ok (.iconst 0, 1) := dk_3 (dk_at dksX6_asTold_4 6 rfl rfl)
theorem dX6_asTold_101 : decode cX6_asTold 101 = .ok (.istore_n 2, 1) := dk_61 (dk_at dksX6_asTold_4 7 rfl rfl)
theorem dX6_asTold_102 : decode cX6_asTold 102 = .ok (.iload_n 2, 1) := dk_28 (dk_at dksX6_asTold_4 8 rfl rfl)
theorem dX6_asTold_103 : decode cX6_asTold 103 = .ok (.aload_n 0, 1) := dk_42 (dk_at dksX6_asTold_4 9 rfl rfl)
theorem dX6_asTold_104 : decode cX6_asTold 104 = .ok (.getfield 303, 3) := dk_180 1 47 (dk_at dksX6_asTold_4 10 rfl rfl)
theorem dX6_asTold_107 : decode cX6_asTold 107 = .ok (.getfield 268, 3) := dk_180 1 12 (dk_at dksX6_asTold_4 13 rfl rfl)
theorem dX6_asTold_110 : decode cX6_asTold 110 = .ok (.if_icmp .ge 43, 3) := dk_162 0 43 (dk_at dksX6_asTold_4 16 rfl rfl)
theorem dX6_asTold_113 : decode cX6_asTold 113 = .ok (.iload_n 1, 1) := dk_27 (dk_at dksX6_asTold_4 19 rfl rfl)
theorem dX6_asTold_114 : decode cX6_asTold 114 = .ok (.iload_n 2, 1) := dk_28 (dk_at dksX6_asTold_4 20 rfl rfl)
theorem dX6_asTold_115 : decode cX6_asTold 115 = .ok (.invokestatic 314, 3) := dk_184 1 58 (dk_at dksX6_asTold_4 21 rfl rfl)
theorem dX6_asTold_118 : decode cX6_asTold 118 = .ok (.ifCond .eq 29, 3) := dk_153 0 29 (dk_at dksX6_asTold_5 0 rfl rfl)
theorem dX6_asTold_121 : decode cX6_asTold 121 = .ok (.aload_n 0, 1) := dk_42 (dk_at dksX6_asTold_5 3 rfl rfl)
theorem dX6_asTold_122 : decode cX6_asTold 122 = .ok (.getfield 21, 3) := dk_180 0 21 (dk_at dksX6_asTold_5 4 rfl rfl)
theorem dX6_asTold_125 : decode cX6_asTold 125 = .ok (.bipush 6, 2) := dk_16 6 (dk_at dksX6_asTold_5 7 rfl rfl)
theorem dX6_asTold_127 : decode cX6_asTold 127 = .ok (.aload_n 0, 1) := dk_42 (dk_at dksX6_asTold_5 9 rfl rfl)
theorem dX6_asTold_128 : decode cX6_asTold 128 = .ok (.getfield 303, 3) := dk_180 1 47 (dk_at dksX6_asTold_5 10 rfl rfl)
theorem dX6_asTold_131 : decode cX6_asTold 131 = .ok (.getfield 274, 3) := dk_180 1 18 (dk_at dksX6_asTold_5 13 rfl rfl)
theorem dX6_asTold_134 : decode cX6_asTold 134 = .ok (.iload_n 2, 1) := dk_28 (dk_at dksX6_asTold_5 16 rfl rfl)
theorem dX6_asTold_135 : decode cX6_asTold 135 = .ok (.iaload, 1) := dk_46 (dk_at dksX6_asTold_5 17 rfl rfl)
theorem dX6_asTold_136 : decode cX6_asTold 136 = .ok (.iadd, 1) := dk_96 (dk_at dksX6_asTold_5 18 rfl rfl)
theorem dX6_asTold_137 : decode cX6_asTold 137 = .ok (.aload_n 0, 1) := dk_42 (dk_at dksX6_asTold_5 19 rfl rfl)
theorem dX6_asTold_138 : decode cX6_asTold 138 = .ok (.getfield 303, 3) := dk_180 1 47 (dk_at dksX6_asTold_5 20 rfl rfl)
theorem dX6_asTold_141 : decode cX6_asTold 141 = .ok (.getfield 276, 3) := dk_180 1 20 (dk_at dksX6_asTold_6 0 rfl rfl)
theorem dX6_asTold_144 : decode cX6_asTold 144 = .ok (.iload_n 2, 1) := dk_28 (dk_at dksX6_asTold_6 3 rfl rfl)
theorem dX6_asTold_145 : decode cX6_asTold 145 = .ok (.iaload, 1) := dk_46 (dk_at dksX6_asTold_6 4 rfl rfl)
theorem dX6_asTold_146 : decode cX6_asTold 146 = .ok (.iastore, 1) := dk_79 (dk_at dksX6_asTold_6 5 rfl rfl)
theorem dX6_asTold_147 : decode cX6_asTold 147 = .ok (.iinc 2 1, 3) := dk_132 2 1 (dk_at dksX6_asTold_6 6 rfl rfl)
theorem dX6_asTold_150 : decode cX6_asTold 150 = .ok (.goto (-48), 3) := dk_167 255 208 (dk_at dksX6_asTold_6 9 rfl rfl)
theorem dX6_asTold_153 : decode cX6_asTold 153 = .ok (.return_, 1) := dk_177 (dk_at dksX6_asTold_6 12 rfl rfl)
abbrev cX6_bit : ByteArray := prog_15_method_9_code
def yX6_bit : MethodName := ⟨RX6, "bit", "(II)Z"⟩
def dkwX6_bit_0 : List UInt8 := [26, 27, 122, 4, 126, 4, 160, 0, 7, 4, 167, 0, 4, 3, 172]
abbrev dktX6_bit_0 : List UInt8 := dkwX6_bit_0 ++ []
theorem dksX6_bit_0 : cX6_bit.data.toList.drop 0 = dktX6_bit_0 := by decide +kernel
theorem dX6_bit_0 : decode cX6_bit 0 = .ok (.iload_n 0, 1) := dk_26 (dk_at dksX6_bit_0 0 rfl rfl)
theorem dX6_bit_1 : decode cX6_bit 1 = .ok (.iload_n 1, 1) := dk_27 (dk_at dksX6_bit_0 1 rfl rfl)
theorem dX6_bit_2 : decode cX6_bit 2 = .ok (.ishr, 1) := dk_122 (dk_at dksX6_bit_0 2 rfl rfl)
theorem dX6_bit_3 : decode cX6_bit 3 = .ok (.iconst 1, 1) := dk_4 (dk_at dksX6_bit_0 3 rfl rfl)
theorem dX6_bit_4 : decode cX6_bit 4 = .ok (.iand, 1) := dk_126 (dk_at dksX6_bit_0 4 rfl rfl)
theorem dX6_bit_5 : decode cX6_bit 5 = .ok (.iconst 1, 1) := dk_4 (dk_at dksX6_bit_0 5 rfl rfl)
theorem dX6_bit_6 : decode cX6_bit 6 = .ok (.if_icmp .ne 7, 3) := dk_160 0 7 (dk_at dksX6_bit_0 6 rfl rfl)
theorem dX6_bit_9 : decode cX6_bit 9 = .ok (.iconst 1, 1) := dk_4 (dk_at dksX6_bit_0 9 rfl rfl)
theorem dX6_bit_10 : decode cX6_bit 10 = .ok (.goto 4, 3) := dk_167 0 4 (dk_at dksX6_bit_0 10 rfl rfl)
theorem dX6_bit_13 : decode cX6_bit 13 = .ok (.iconst 0, 1) := dk_3 (dk_at dksX6_bit_0 13 rfl rfl)
theorem dX6_bit_14 : decode cX6_bit 14 = .ok (.ireturn, 1) := dk_172 (dk_at dksX6_bit_0 14 rfl rfl)
abbrev cX6_good : ByteArray := prog_15_method_6_code
def yX6_good : MethodName := ⟨RX6, "good", "(I)I"⟩
def dkwX6_good_0 : List UInt8 := [42, 3, 181, 0, 52, 42, 2, 181, 0, 9, 27, 172]
abbrev dktX6_good_0 : List UInt8 := dkwX6_good_0 ++ []
theorem dksX6_good_0 : cX6_good.data.toList.drop 0 = dktX6_good_0 := by decide +kernel
theorem dX6_good_0 : decode cX6_good 0 = .ok (.aload_n 0, 1) := dk_42 (dk_at dksX6_good_0 0 rfl rfl)
theorem dX6_good_1 : decode cX6_good 1 = .ok (.iconst 0, 1) := dk_3 (dk_at dksX6_good_0 1 rfl rfl)
theorem dX6_good_2 : decode cX6_good 2 = .ok (.putfield 52, 3) := dk_181 0 52 (dk_at dksX6_good_0 2 rfl rfl)
theorem dX6_good_5 : decode cX6_good 5 = .ok (.aload_n 0, 1) := dk_42 (dk_at dksX6_good_0 5 rfl rfl)
theorem dX6_good_6 : decode cX6_good 6 = .ok (.iconst (-1), 1) := dk_2 (dk_at dksX6_good_0 6 rfl rfl)
theorem dX6_good_7 : decode cX6_good 7 = .ok (.putfield 9, 3) := dk_181 0 9 (dk_at dksX6_good_0 7 rfl rfl)
theorem dX6_good_10 : decode cX6_good 10 = .ok (.iload_n 1, 1) := dk_27 (dk_at dksX6_good_0 10 rfl rfl)
theorem dX6_good_11 : decode cX6_good 11 = .ok (.ireturn, 1) := dk_172 (dk_at dksX6_good_0 11 rfl rfl)
abbrev cX6_fault : ByteArray := prog_15_method_41_code
def yX6_fault : MethodName := ⟨RX6, "fault", "()I"⟩
def dkwX6_fault_0 : List UInt8 := [42, 3, 181, 0, 49, 42, 180, 0, 107, 172]
abbrev dktX6_fault_0 : List UInt8 := dkwX6_fault_0 ++ []
theorem dksX6_fault_0 : cX6_fault.data.toList.drop 0 = dktX6_fault_0 := by decide +kernel
theorem dX6_fault_0 : decode cX6_fault 0 = .ok (.aload_n 0, 1) := dk_42 (dk_at dksX6_fault_0 0 rfl rfl)
theorem dX6_fault_1 : decode cX6_fault 1 = .ok (.iconst 0, 1) := dk_3 (dk_at dksX6_fault_0 1 rfl rfl)
theorem dX6_fault_2 : decode cX6_fault 2 = .ok (.putfield 49, 3) := dk_181 0 49 (dk_at dksX6_fault_0 2 rfl rfl)
theorem dX6_fault_5 : decode cX6_fault 5 = .ok (.aload_n 0, 1) := dk_42 (dk_at dksX6_fault_0 5 rfl rfl)
theorem dX6_fault_6 : decode cX6_fault 6 = .ok (.getfield 107, 3) := dk_180 0 107 (dk_at dksX6_fault_0 6 rfl rfl)
theorem dX6_fault_9 : decode cX6_fault 9 = .ok (.ireturn, 1) := dk_172 (dk_at dksX6_fault_0 9 rfl rfl)
abbrev cX6_where : ByteArray := prog_15_method_42_code
def yX6_where : MethodName := ⟨RX6, "where", "()I"⟩
def dkwX6_where_0 : List UInt8 := [42, 3, 181, 0, 49, 42, 180, 0, 9, 172]
abbrev dktX6_where_0 : List UInt8 := dkwX6_where_0 ++ []
theorem dksX6_where_0 : cX6_where.data.toList.drop 0 = dktX6_where_0 := by decide +kernel
theorem dX6_where_0 : decode cX6_where 0 = .ok (.aload_n 0, 1) := dk_42 (dk_at dksX6_where_0 0 rfl rfl)
theorem dX6_where_1 : decode cX6_where 1 = .ok (.iconst 0, 1) := dk_3 (dk_at dksX6_where_0 1 rfl rfl)
theorem dX6_where_2 : decode cX6_where 2 = .ok (.putfield 49, 3) := dk_181 0 49 (dk_at dksX6_where_0 2 rfl rfl)
theorem dX6_where_5 : decode cX6_where 5 = .ok (.aload_n 0, 1) := dk_42 (dk_at dksX6_where_0 5 rfl rfl)
theorem dX6_where_6 : decode cX6_where 6 = .ok (.getfield 9, 3) := dk_180 0 9 (dk_at dksX6_where_0 6 rfl rfl)
theorem dX6_where_9 : decode cX6_where 9 = .ok (.ireturn, 1) := dk_172 (dk_at dksX6_where_0 9 rfl rfl)
abbrev cX6_person : ByteArray := prog_15_method_58_code
def yX6_person : MethodName := ⟨RX6, "person", "(II)I"⟩
def dkwX6_person_5 : List UInt8 := [182, 0, 59, 172]
abbrev dktX6_person_5 : List UInt8 := dkwX6_person_5 ++ []
def dkwX6_person_4 : List UInt8 := [167, 0, 24, 28, 4, 160, 0, 7, 29, 167, 0, 15, 42, 27, 42, 180, 0, 17, 16, 18, 46, 182, 1, 89]
abbrev dktX6_person_4 : List UInt8 := dkwX6_person_4 ++ dktX6_person_5
def dkwX6_person_3 : List UInt8 := [167, 0, 4, 3, 128, 62, 132, 4, 1, 167, 255, 216, 42, 28, 154, 0, 12, 42, 180, 0, 17, 27, 46]
abbrev dktX6_person_3 : List UInt8 := dkwX6_person_3 ++ dktX6_person_4
def dkwX6_person_2 : List UInt8 := [162, 0, 34, 29, 42, 180, 1, 47, 180, 1, 7, 21, 4, 46, 27, 160, 0, 10, 4, 21, 4, 120]
abbrev dktX6_person_2 : List UInt8 := dkwX6_person_2 ++ dktX6_person_3
def dkwX6_person_1 : List UInt8 := [182, 0, 55, 172, 42, 182, 1, 86, 3, 62, 3, 54, 4, 21, 4, 42, 180, 1, 47, 180, 0, 241]
abbrev dktX6_person_1 : List UInt8 := dkwX6_person_1 ++ dktX6_person_2
def dkwX6_person_0 : List UInt8 := [42, 3, 181, 0, 49, 42, 27, 182, 1, 83, 153, 0, 12, 28, 3, 5, 184, 0, 128, 154, 0, 9, 42, 4]
abbrev dktX6_person_0 : List UInt8 := dkwX6_person_0 ++ dktX6_person_1
theorem dksX6_person_0 : cX6_person.data.toList.drop 0 = dktX6_person_0 := by decide +kernel
theorem dksX6_person_1 : cX6_person.data.toList.drop 24 = dktX6_person_1 := dk_seg dksX6_person_0 24 rfl rfl
theorem dksX6_person_2 : cX6_person.data.toList.drop 46 = dktX6_person_2 := dk_seg dksX6_person_1 22 rfl rfl
theorem dksX6_person_3 : cX6_person.data.toList.drop 68 = dktX6_person_3 := dk_seg dksX6_person_2 22 rfl rfl
theorem dksX6_person_4 : cX6_person.data.toList.drop 91 = dktX6_person_4 := dk_seg dksX6_person_3 23 rfl rfl
theorem dksX6_person_5 : cX6_person.data.toList.drop 115 = dktX6_person_5 := dk_seg dksX6_person_4 24 rfl rfl
theorem dX6_person_0 : decode cX6_person 0 = .ok (.aload_n 0, 1) := dk_42 (dk_at dksX6_person_0 0 rfl rfl)
theorem dX6_person_1 : decode cX6_person 1 = .ok (.iconst 0, 1) := dk_3 (dk_at dksX6_person_0 1 rfl rfl)
theorem dX6_person_2 : decode cX6_person 2 = .ok (.putfield 49, 3) := dk_181 0 49 (dk_at dksX6_person_0 2 rfl rfl)
theorem dX6_person_5 : decode cX6_person 5 = .ok (.aload_n 0, 1) := dk_42 (dk_at dksX6_person_0 5 rfl rfl)
theorem dX6_person_6 : decode cX6_person 6 = .ok (.iload_n 1, 1) := dk_27 (dk_at dksX6_person_0 6 rfl rfl)
theorem dX6_person_7 : decode cX6_person 7 = .ok (.invokevirtual 339, 3) := dk_182 1 83 (dk_at dksX6_person_0 7 rfl rfl)
theorem dX6_person_10 : decode cX6_person 10 = .ok (.ifCond .eq 12, 3) := dk_153 0 12 (dk_at dksX6_person_0 10 rfl rfl)
theorem dX6_person_13 : decode cX6_person 13 = .ok (.iload_n 2, 1) := dk_28 (dk_at dksX6_person_0 13 rfl rfl)
theorem dX6_person_14 : decode cX6_person 14 = .ok (.iconst 0, 1) := dk_3 (dk_at dksX6_person_0 14 rfl rfl)
theorem dX6_person_15 : decode cX6_person 15 = .ok (.iconst 2, 1) := dk_5 (dk_at dksX6_person_0 15 rfl rfl)
theorem dX6_person_16 : decode cX6_person 16 = .ok (.invokestatic 128, 3) := dk_184 0 128 (dk_at dksX6_person_0 16 rfl rfl)
theorem dX6_person_19 : decode cX6_person 19 = .ok (.ifCond .ne 9, 3) := dk_154 0 9 (dk_at dksX6_person_0 19 rfl rfl)
theorem dX6_person_22 : decode cX6_person 22 = .ok (.aload_n 0, 1) := dk_42 (dk_at dksX6_person_0 22 rfl rfl)
theorem dX6_person_23 : decode cX6_person 23 = .ok (.iconst 1, 1) := dk_4 (dk_at dksX6_person_0 23 rfl rfl)
theorem dX6_person_24 : decode cX6_person 24 = .ok (.invokevirtual 55, 3) := dk_182 0 55 (dk_at dksX6_person_1 0 rfl rfl)
theorem dX6_person_27 : decode cX6_person 27 = .ok (.ireturn, 1) := dk_172 (dk_at dksX6_person_1 3 rfl rfl)
theorem dX6_person_28 : decode cX6_person 28 = .ok (.aload_n 0, 1) := dk_42 (dk_at dksX6_person_1 4 rfl rfl)
theorem dX6_person_29 : decode cX6_person 29 = .ok (.invokevirtual 342, 3) := dk_182 1 86 (dk_at dksX6_person_1 5 rfl rfl)
theorem dX6_person_32 : decode cX6_person 32 = .ok (.iconst 0, 1) := dk_3 (dk_at dksX6_person_1 8 rfl rfl)
theorem dX6_person_33 : decode cX6_person 33 = .ok (.istore_n 3, 1) := dk_62 (dk_at dksX6_person_1 9 rfl rfl)
theorem dX6_person_34 : decode cX6_person 34 = .ok (.iconst 0, 1) := dk_3 (dk_at dksX6_person_1 10 rfl rfl)
theorem dX6_person_35 : decode cX6_person 35 = .ok (.istore 4, 2) := dk_54 4 (dk_at dksX6_person_1 11 rfl rfl)
theorem dX6_person_37 : decode cX6_person 37 = .ok (.iload 4, 2) := dk_21 4 (dk_at dksX6_person_1 13 rfl rfl)
theorem dX6_person_39 : decode cX6_person 39 = .ok (.aload_n 0, 1) := dk_42 (dk_at dksX6_person_1 15 rfl rfl)
theorem dX6_person_40 : decode cX6_person 40 = .ok (.getfield 303, 3) := dk_180 1 47 (dk_at dksX6_person_1 16 rfl rfl)
theorem dX6_person_43 : decode cX6_person 43 = .ok (.getfield 241, 3) := dk_180 0 241 (dk_at dksX6_person_1 19 rfl rfl)
theorem dX6_person_46 : decode cX6_person 46 = .ok (.if_icmp .ge 34, 3) := dk_162 0 34 (dk_at dksX6_person_2 0 rfl rfl)
theorem dX6_person_49 : decode cX6_person 49 = .ok (.iload_n 3, 1) := dk_29 (dk_at dksX6_person_2 3 rfl rfl)
theorem dX6_person_50 : decode cX6_person 50 = .ok (.aload_n 0, 1) := dk_42 (dk_at dksX6_person_2 4 rfl rfl)
theorem dX6_person_51 : decode cX6_person 51 = .ok (.getfield 303, 3) := dk_180 1 47 (dk_at dksX6_person_2 5 rfl rfl)
theorem dX6_person_54 : decode cX6_person 54 = .ok (.getfield 263, 3) := dk_180 1 7 (dk_at dksX6_person_2 8 rfl rfl)
theorem dX6_person_57 : decode cX6_person 57 = .ok (.iload 4, 2) := dk_21 4 (dk_at dksX6_person_2 11 rfl rfl)
theorem dX6_person_59 : decode cX6_person 59 = .ok (.iaload, 1) := dk_46 (dk_at dksX6_person_2 13 rfl rfl)
theorem dX6_person_60 : decode cX6_person 60 = .ok (.iload_n 1, 1) := dk_27 (dk_at dksX6_person_2 14 rfl rfl)
theorem dX6_person_61 : decode cX6_person 61 = .ok (.if_icmp .ne 10, 3) := dk_160 0 10 (dk_at dksX6_person_2 15 rfl rfl)
theorem dX6_person_64 : decode cX6_person 64 = .ok (.iconst 1, 1) := dk_4 (dk_at dksX6_person_2 18 rfl rfl)
theorem dX6_person_65 : decode cX6_person 65 = .ok (.iload 4, 2) := dk_21 4 (dk_at dksX6_person_2 19 rfl rfl)
theorem dX6_person_67 : decode cX6_person 67 = .ok (.ishl, 1) := dk_120 (dk_at dksX6_person_2 21 rfl rfl)
theorem dX6_person_68 : decode cX6_person 68 = .ok (.goto 4, 3) := dk_167 0 4 (dk_at dksX6_person_3 0 rfl rfl)
theorem dX6_person_71 : decode cX6_person 71 = .ok (.iconst 0, 1) := dk_3 (dk_at dksX6_person_3 3 rfl rfl)
theorem dX6_person_72 : decode cX6_person 72 = .ok (.ior, 1) := dk_128 (dk_at dksX6_person_3 4 rfl rfl)
theorem dX6_person_73 : decode cX6_person 73 = .ok (.istore_n 3, 1) := dk_62 (dk_at dksX6_person_3 5 rfl rfl)
theorem dX6_person_74 : decode cX6_person 74 = .ok (.iinc 4 1, 3) := dk_132 4 1 (dk_at dksX6_person_3 6 rfl rfl)
theorem dX6_person_77 : decode cX6_person 77 = .ok (.goto (-40), 3) := dk_167 255 216 (dk_at dksX6_person_3 9 rfl rfl)
theorem dX6_person_80 : decode cX6_person 80 = .ok (.aload_n 0, 1) := dk_42 (dk_at dksX6_person_3 12 rfl rfl)
theorem dX6_person_81 : decode cX6_person 81 = .ok (.iload_n 2, 1) := dk_28 (dk_at dksX6_person_3 13 rfl rfl)
theorem dX6_person_82 : decode cX6_person 82 = .ok (.ifCond .ne 12, 3) := dk_154 0 12 (dk_at dksX6_person_3 14 rfl rfl)
theorem dX6_person_85 : decode cX6_person 85 = .ok (.aload_n 0, 1) := dk_42 (dk_at dksX6_person_3 17 rfl rfl)
theorem dX6_person_86 : decode cX6_person 86 = .ok (.getfield 17, 3) := dk_180 0 17 (dk_at dksX6_person_3 18 rfl rfl)
theorem dX6_person_89 : decode cX6_person 89 = .ok (.iload_n 1, 1) := dk_27 (dk_at dksX6_person_3 21 rfl rfl)
theorem dX6_person_90 : decode cX6_person 90 = .ok (.iaload, 1) := dk_46 (dk_at dksX6_person_3 22 rfl rfl)
theorem dX6_person_91 : decode cX6_person 91 = .ok (.goto 24, 3) := dk_167 0 24 (dk_at dksX6_person_4 0 rfl rfl)
theorem dX6_person_94 : decode cX6_person 94 = .ok (.iload_n 2, 1) := dk_28 (dk_at dksX6_person_4 3 rfl rfl)
theorem dX6_person_95 : decode cX6_person 95 = .ok (.iconst 1, 1) := dk_4 (dk_at dksX6_person_4 4 rfl rfl)
theorem dX6_person_96 : decode cX6_person 96 = .ok (.if_icmp .ne 7, 3) := dk_160 0 7 (dk_at dksX6_person_4 5 rfl rfl)
theorem dX6_person_99 : decode cX6_person 99 = .ok (.iload_n 3, 1) := dk_29 (dk_at dksX6_person_4 8 rfl rfl)
theorem dX6_person_100 : decode cX6_person 100 = .ok (.goto 15, 3) := dk_167 0 15 (dk_at dksX6_person_4 9 rfl rfl)
theorem dX6_person_103 : decode cX6_person 103 = .ok (.aload_n 0, 1) := dk_42 (dk_at dksX6_person_4 12 rfl rfl)
theorem dX6_person_104 : decode cX6_person 104 = .ok (.iload_n 1, 1) := dk_27 (dk_at dksX6_person_4 13 rfl rfl)
theorem dX6_person_105 : decode cX6_person 105 = .ok (.aload_n 0, 1) := dk_42 (dk_at dksX6_person_4 14 rfl rfl)
theorem dX6_person_106 : decode cX6_person 106 = .ok (.getfield 17, 3) := dk_180 0 17 (dk_at dksX6_person_4 15 rfl rfl)
theorem dX6_person_109 : decode cX6_person 109 = .ok (.bipush 18, 2) := dk_16 18 (dk_at dksX6_person_4 18 rfl rfl)
theorem dX6_person_111 : decode cX6_person 111 = .ok (.iaload, 1) := dk_46 (dk_at dksX6_person_4 20 rfl rfl)
theorem dX6_person_112 : decode cX6_person 112 = .ok (.invokevirtual 345, 3) := dk_182 1 89 (dk_at dksX6_person_4 21 rfl rfl)
theorem dX6_person_115 : decode cX6_person 115 = .ok (.invokevirtual 59, 3) := dk_182 0 59 (dk_at dksX6_person_5 0 rfl rfl)
theorem dX6_person_118 : decode cX6_person 118 = .ok (.ireturn, 1) := dk_172 (dk_at dksX6_person_5 3 rfl rfl)
abbrev cX6_isPerson : ByteArray := prog_15_method_43_code
def yX6_isPerson : MethodName := ⟨RX6, "isPerson", "(I)Z"⟩
def dkwX6_isPerson_1 : List UInt8 := [167, 0, 4, 3, 172]
abbrev dktX6_isPerson_1 : List UInt8 := dkwX6_isPerson_1 ++ []
def dkwX6_isPerson_0 : List UInt8 := [42, 180, 1, 47, 198, 0, 22, 27, 155, 0, 18, 27, 42, 180, 1, 47, 180, 0, 193, 162, 0, 7, 4]
abbrev dktX6_isPerson_0 : List UInt8 := dkwX6_isPerson_0 ++ dktX6_isPerson_1
theorem dksX6_isPerson_0 : cX6_isPerson.data.toList.drop 0 = dktX6_isPerson_0 := by decide +kernel
theorem dksX6_isPerson_1 : cX6_isPerson.data.toList.drop 23 = dktX6_isPerson_1 := dk_seg dksX6_isPerson_0 23 rfl rfl
theorem dX6_isPerson_0 : decode cX6_isPerson 0 = .ok (.aload_n 0, 1) := dk_42 (dk_at dksX6_isPerson_0 0 rfl rfl)
theorem dX6_isPerson_1 : decode cX6_isPerson 1 = .ok (.getfield 303, 3) := dk_180 1 47 (dk_at dksX6_isPerson_0 1 rfl rfl)
theorem dX6_isPerson_4 : decode cX6_isPerson 4 = .ok (.ifnull 22, 3) := dk_198 0 22 (dk_at dksX6_isPerson_0 4 rfl rfl)
theorem dX6_isPerson_7 : decode cX6_isPerson 7 = .ok (.iload_n 1, 1) := dk_27 (dk_at dksX6_isPerson_0 7 rfl rfl)
theorem dX6_isPerson_8 : decode cX6_isPerson 8 = .ok (.ifCond .lt 18, 3) := dk_155 0 18 (dk_at dksX6_isPerson_0 8 rfl rfl)
theorem dX6_isPerson_11 : decode cX6_isPerson 11 = .ok (.iload_n 1, 1) := dk_27 (dk_at dksX6_isPerson_0 11 rfl rfl)
theorem dX6_isPerson_12 : decode cX6_isPerson 12 = .ok (.aload_n 0, 1) := dk_42 (dk_at dksX6_isPerson_0 12 rfl rfl)
theorem dX6_isPerson_13 : decode cX6_isPerson 13 = .ok (.getfield 303, 3) := dk_180 1 47 (dk_at dksX6_isPerson_0 13 rfl rfl)
theorem dX6_isPerson_16 : decode cX6_isPerson 16 = .ok (.getfield 193, 3) := dk_180 0 193 (dk_at dksX6_isPerson_0 16 rfl rfl)
theorem dX6_isPerson_19 : decode cX6_isPerson 19 = .ok (.if_icmp .ge 7, 3) := dk_162 0 7 (dk_at dksX6_isPerson_0 19 rfl rfl)
theorem dX6_isPerson_22 : decode cX6_isPerson 22 = .ok (.iconst 1, 1) := dk_4 (dk_at dksX6_isPerson_0 22 rfl rfl)
theorem dX6_isPerson_23 : decode cX6_isPerson 23 = .ok (.goto 4, 3) := dk_167 0 4 (dk_at dksX6_isPerson_1 0 rfl rfl)
theorem dX6_isPerson_26 : decode cX6_isPerson 26 = .ok (.iconst 0, 1) := dk_3 (dk_at dksX6_isPerson_1 3 rfl rfl)
theorem dX6_isPerson_27 : decode cX6_isPerson 27 = .ok (.ireturn, 1) := dk_172 (dk_at dksX6_isPerson_1 4 rfl rfl)
abbrev cX6_works : ByteArray := prog_15_method_46_code
def yX6_works : MethodName := ⟨RX6, "works", "()V"⟩
def dkwX6_works_1 : List UInt8 := [167, 255, 235, 177]
abbrev dktX6_works_1 : List UInt8 := dkwX6_works_1 ++ []
def dkwX6_works_0 : List UInt8 := [3, 60, 27, 16, 19, 162, 0, 21, 42, 180, 0, 21, 27, 42, 180, 0, 17, 27, 46, 79, 132, 1, 1]
abbrev dktX6_works_0 : List UInt8 := dkwX6_works_0 ++ dktX6_works_1
theorem dksX6_works_0 : cX6_works.data.toList.drop 0 = dktX6_works_0 := by decide +kernel
theorem dksX6_works_1 : cX6_works.data.toList.drop 23 = dktX6_works_1 := dk_seg dksX6_works_0 23 rfl rfl
theorem dX6_works_0 : decode cX6_works 0 = .ok (.iconst 0, 1) := dk_3 (dk_at dksX6_works_0 0 rfl rfl)
theorem dX6_works_1 : decode cX6_works 1 = .ok (.istore_n 1, 1) := dk_60 (dk_at dksX6_works_0 1 rfl rfl)
theorem dX6_works_2 : decode cX6_works 2 = .ok (.iload_n 1, 1) := dk_27 (dk_at dksX6_works_0 2 rfl rfl)
theorem dX6_works_3 : decode cX6_works 3 = .ok (.bipush 19, 2) := dk_16 19 (dk_at dksX6_works_0 3 rfl rfl)
theorem dX6_works_5 : decode cX6_works 5 = .ok (.if_icmp .ge 21, 3) := dk_162 0 21 (dk_at dksX6_works_0 5 rfl rfl)
theorem dX6_works_8 : decode cX6_works 8 = .ok (.aload_n 0, 1) := dk_42 (dk_at dksX6_works_0 8 rfl rfl)
theorem dX6_works_9 : decode cX6_works 9 = .ok (.getfield 21, 3) := dk_180 0 21 (dk_at dksX6_works_0 9 rfl rfl)
theorem dX6_works_12 : decode cX6_works 12 = .ok (.iload_n 1, 1) := dk_27 (dk_at dksX6_works_0 12 rfl rfl)
theorem dX6_works_13 : decode cX6_works 13 = .ok (.aload_n 0, 1) := dk_42 (dk_at dksX6_works_0 13 rfl rfl)
theorem dX6_works_14 : decode cX6_works 14 = .ok (.getfield 17, 3) := dk_180 0 17 (dk_at dksX6_works_0 14 rfl rfl)
theorem dX6_works_17 : decode cX6_works 17 = .ok (.iload_n 1, 1) := dk_27 (dk_at dksX6_works_0 17 rfl rfl)
theorem dX6_works_18 : decode cX6_works 18 = .ok (.iaload, 1) := dk_46 (dk_at dksX6_works_0 18 rfl rfl)
theorem dX6_works_19 : decode cX6_works 19 = .ok (.iastore, 1) := dk_79 (dk_at dksX6_works_0 19 rfl rfl)
theorem dX6_works_20 : decode cX6_works 20 = .ok (.iinc 1 1, 3) := dk_132 1 1 (dk_at dksX6_works_0 20 rfl rfl)
theorem dX6_works_23 : decode cX6_works 23 = .ok (.goto (-21), 3) := dk_167 255 235 (dk_at dksX6_works_1 0 rfl rfl)
theorem dX6_works_26 : decode cX6_works 26 = .ok (.return_, 1) := dk_177 (dk_at dksX6_works_1 3 rfl rfl)
abbrev cX6_heardOf : ByteArray := prog_15_method_57_code
def yX6_heardOf : MethodName := ⟨RX6, "heardOf", "(II)I"⟩
def dkwX6_heardOf_2 : List UInt8 := [172]
abbrev dktX6_heardOf_2 : List UInt8 := dkwX6_heardOf_2 ++ []
def dkwX6_heardOf_1 : List UInt8 := [182, 1, 77, 27, 160, 0, 10, 4, 21, 4, 120, 167, 0, 4, 3, 128, 62, 132, 4, 1, 167, 255, 219, 29]
abbrev dktX6_heardOf_1 : List UInt8 := dkwX6_heardOf_1 ++ dktX6_heardOf_2
def dkwX6_heardOf_0 : List UInt8 := [3, 62, 3, 54, 4, 21, 4, 42, 180, 1, 47, 180, 0, 241, 162, 0, 31, 29, 42, 21, 4, 28]
abbrev dktX6_heardOf_0 : List UInt8 := dkwX6_heardOf_0 ++ dktX6_heardOf_1
theorem dksX6_heardOf_0 : cX6_heardOf.data.toList.drop 0 = dktX6_heardOf_0 := by decide +kernel
theorem dksX6_heardOf_1 : cX6_heardOf.data.toList.drop 22 = dktX6_heardOf_1 := dk_seg dksX6_heardOf_0 22 rfl rfl
theorem dksX6_heardOf_2 : cX6_heardOf.data.toList.drop 46 = dktX6_heardOf_2 := dk_seg dksX6_heardOf_1 24 rfl rfl
theorem dX6_heardOf_0 : decode cX6_heardOf 0 = .ok (.iconst 0, 1) := dk_3 (dk_at dksX6_heardOf_0 0 rfl rfl)
theorem dX6_heardOf_1 : decode cX6_heardOf 1 = .ok (.istore_n 3, 1) := dk_62 (dk_at dksX6_heardOf_0 1 rfl rfl)
theorem dX6_heardOf_2 : decode cX6_heardOf 2 = .ok (.iconst 0, 1) := dk_3 (dk_at dksX6_heardOf_0 2 rfl rfl)
theorem dX6_heardOf_3 : decode cX6_heardOf 3 = .ok (.istore 4, 2) := dk_54 4 (dk_at dksX6_heardOf_0 3 rfl rfl)
theorem dX6_heardOf_5 : decode cX6_heardOf 5 = .ok (.iload 4, 2) := dk_21 4 (dk_at dksX6_heardOf_0 5 rfl rfl)
theorem dX6_heardOf_7 : decode cX6_heardOf 7 = .ok (.aload_n 0, 1) := dk_42 (dk_at dksX6_heardOf_0 7 rfl rfl)
theorem dX6_heardOf_8 : decode cX6_heardOf 8 = .ok (.getfield 303, 3) := dk_180 1 47 (dk_at dksX6_heardOf_0 8 rfl rfl)
theorem dX6_heardOf_11 : decode cX6_heardOf 11 = .ok (.getfield 241, 3) := dk_180 0 241 (dk_at dksX6_heardOf_0 11 rfl rfl)
theorem dX6_heardOf_14 : decode cX6_heardOf 14 = .ok (.if_icmp .ge 31, 3) := dk_162 0 31 (dk_at dksX6_heardOf_0 14 rfl rfl)
theorem dX6_heardOf_17 : decode cX6_heardOf 17 = .ok (.iload_n 3, 1) := dk_29 (dk_at dksX6_heardOf_0 17 rfl rfl)
theorem dX6_heardOf_18 : decode cX6_heardOf 18 = .ok (.aload_n 0, 1) := dk_42 (dk_at dksX6_heardOf_0 18 rfl rfl)
theorem dX6_heardOf_19 : decode cX6_heardOf 19 = .ok (.iload 4, 2) := dk_21 4 (dk_at dksX6_heardOf_0 19 rfl rfl)
theorem dX6_heardOf_21 : decode cX6_heardOf 21 = .ok (.iload_n 2, 1) := dk_28 (dk_at dksX6_heardOf_0 21 rfl rfl)
theorem dX6_heardOf_22 : decode cX6_heardOf 22 = .ok (.invokevirtual 333, 3) := dk_182 1 77 (dk_at dksX6_heardOf_1 0 rfl rfl)
theorem dX6_heardOf_25 : decode cX6_heardOf 25 = .ok (.iload_n 1, 1) := dk_27 (dk_at dksX6_heardOf_1 3 rfl rfl)
theorem dX6_heardOf_26 : decode cX6_heardOf 26 = .ok (.if_icmp .ne 10, 3) := dk_160 0 10 (dk_at dksX6_heardOf_1 4 rfl rfl)
theorem dX6_heardOf_29 : decode cX6_heardOf 29 = .ok (.iconst 1, 1) := dk_4 (dk_at dksX6_heardOf_1 7 rfl rfl)
theorem dX6_heardOf_30 : decode cX6_heardOf 30 = .ok (.iload 4, 2) := dk_21 4 (dk_at dksX6_heardOf_1 8 rfl rfl)
theorem dX6_heardOf_32 : decode cX6_heardOf 32 = .ok (.ishl, 1) := dk_120 (dk_at dksX6_heardOf_1 10 rfl rfl)
theorem dX6_heardOf_33 : decode cX6_heardOf 33 = .ok (.goto 4, 3) := dk_167 0 4 (dk_at dksX6_heardOf_1 11 rfl rfl)
theorem dX6_heardOf_36 : decode cX6_heardOf 36 = .ok (.iconst 0, 1) := dk_3 (dk_at dksX6_heardOf_1 14 rfl rfl)
theorem dX6_heardOf_37 : decode cX6_heardOf 37 = .ok (.ior, 1) := dk_128 (dk_at dksX6_heardOf_1 15 rfl rfl)
theorem dX6_heardOf_38 : decode cX6_heardOf 38 = .ok (.istore_n 3, 1) := dk_62 (dk_at dksX6_heardOf_1 16 rfl rfl)
theorem dX6_heardOf_39 : decode cX6_heardOf 39 = .ok (.iinc 4 1, 3) := dk_132 4 1 (dk_at dksX6_heardOf_1 17 rfl rfl)
theorem dX6_heardOf_42 : decode cX6_heardOf 42 = .ok (.goto (-37), 3) := dk_167 255 219 (dk_at dksX6_heardOf_1 20 rfl rfl)
theorem dX6_heardOf_45 : decode cX6_heardOf 45 = .ok (.iload_n 3, 1) := dk_29 (dk_at dksX6_heardOf_1 23 rfl rfl)
theorem dX6_heardOf_46 : decode cX6_heardOf 46 = .ok (.ireturn, 1) := dk_172 (dk_at dksX6_heardOf_2 0 rfl rfl)
abbrev cX6_whoHears : ByteArray := prog_15_method_53_code
def yX6_whoHears : MethodName := ⟨RX6, "whoHears", "(II)I"⟩
def dkwX6_whoHears_0 : List UInt8 := [42, 42, 27, 42, 27, 182, 1, 67, 28, 182, 1, 70, 182, 1, 74, 172]
abbrev dktX6_whoHears_0 : List UInt8 := dkwX6_whoHears_0 ++ []
theorem dksX6_whoHears_0 : cX6_whoHears.data.toList.drop 0 = dktX6_whoHears_0 := by decide +kernel
theorem dX6_whoHears_0 : decode cX6_whoHears 0 = .ok (.aload_n 0, 1) := dk_42 (dk_at dksX6_whoHears_0 0 rfl rfl)
theorem dX6_whoHears_1 : decode cX6_whoHears 1 = .ok (.aload_n 0, 1) := dk_42 (dk_at dksX6_whoHears_0 1 rfl rfl)
theorem dX6_whoHears_2 : decode cX6_whoHears 2 = .ok (.iload_n 1, 1) := dk_27 (dk_at dksX6_whoHears_0 2 rfl rfl)
theorem dX6_whoHears_3 : decode cX6_whoHears 3 = .ok (.aload_n 0, 1) := dk_42 (dk_at dksX6_whoHears_0 3 rfl rfl)
theorem dX6_whoHears_4 : decode cX6_whoHears 4 = .ok (.iload_n 1, 1) := dk_27 (dk_at dksX6_whoHears_0 4 rfl rfl)
theorem dX6_whoHears_5 : decode cX6_whoHears 5 = .ok (.invokevirtual 323, 3) := dk_182 1 67 (dk_at dksX6_whoHears_0 5 rfl rfl)
theorem dX6_whoHears_8 : decode cX6_whoHears 8 = .ok (.iload_n 2, 1) := dk_28 (dk_at dksX6_whoHears_0 8 rfl rfl)
theorem dX6_whoHears_9 : decode cX6_whoHears 9 = .ok (.invokevirtual 326, 3) := dk_182 1 70 (dk_at dksX6_whoHears_0 9 rfl rfl)
theorem dX6_whoHears_12 : decode cX6_whoHears 12 = .ok (.invokevirtual 330, 3) := dk_182 1 74 (dk_at dksX6_whoHears_0 12 rfl rfl)
theorem dX6_whoHears_15 : decode cX6_whoHears 15 = .ok (.ireturn, 1) := dk_172 (dk_at dksX6_whoHears_0 15 rfl rfl)
abbrev cX6_aimOf : ByteArray := prog_15_method_52_code
def yX6_aimOf : MethodName := ⟨RX6, "aimOf", "(I)I"⟩
def dkwX6_aimOf_0 : List UInt8 := [42, 180, 0, 21, 42, 180, 1, 47, 180, 1, 7, 27, 46, 46, 172]
abbrev dktX6_aimOf_0 : List UInt8 := dkwX6_aimOf_0 ++ []
theorem dksX6_aimOf_0 : cX6_aimOf.data.toList.drop 0 = dktX6_aimOf_0 := by decide +kernel
theorem dX6_aimOf_0 : decode cX6_aimOf 0 = .ok (.aload_n 0, 1) := dk_42 (dk_at dksX6_aimOf_0 0 rfl rfl)
theorem dX6_aimOf_1 : decode cX6_aimOf 1 = .ok (.getfield 21, 3) := dk_180 0 21 (dk_at dksX6_aimOf_0 1 rfl rfl)
theorem dX6_aimOf_4 : decode cX6_aimOf 4 = .ok (.aload_n 0, 1) := dk_42 (dk_at dksX6_aimOf_0 4 rfl rfl)
theorem dX6_aimOf_5 : decode cX6_aimOf 5 = .ok (.getfield 303, 3) := dk_180 1 47 (dk_at dksX6_aimOf_0 5 rfl rfl)
theorem dX6_aimOf_8 : decode cX6_aimOf 8 = .ok (.getfield 263, 3) := dk_180 1 7 (dk_at dksX6_aimOf_0 8 rfl rfl)
theorem dX6_aimOf_11 : decode cX6_aimOf 11 = .ok (.iload_n 1, 1) := dk_27 (dk_at dksX6_aimOf_0 11 rfl rfl)
theorem dX6_aimOf_12 : decode cX6_aimOf 12 = .ok (.iaload, 1) := dk_46 (dk_at dksX6_aimOf_0 12 rfl rfl)
theorem dX6_aimOf_13 : decode cX6_aimOf 13 = .ok (.iaload, 1) := dk_46 (dk_at dksX6_aimOf_0 13 rfl rfl)
theorem dX6_aimOf_14 : decode cX6_aimOf 14 = .ok (.ireturn, 1) := dk_172 (dk_at dksX6_aimOf_0 14 rfl rfl)
abbrev cX6_outOf : ByteArray := prog_15_method_49_code
def yX6_outOf : MethodName := ⟨RX6, "outOf", "(III)I"⟩
def dkwX6_outOf_5 : List UInt8 := [172]
abbrev dktX6_outOf_5 : List UInt8 := dkwX6_outOf_5 ++ []
def dkwX6_outOf_4 : List UInt8 := [21, 8, 16, 254, 160, 0, 8, 21, 7, 167, 0, 15, 42, 5, 21, 8, 104, 21, 7, 100, 133, 182, 1, 61]
abbrev dktX6_outOf_4 : List UInt8 := dkwX6_outOf_4 ++ dktX6_outOf_5
def dkwX6_outOf_3 : List UInt8 := [54, 6, 42, 28, 21, 6, 96, 133, 182, 1, 61, 54, 7, 42, 180, 0, 21, 16, 12, 27, 96, 46, 54, 8]
abbrev dktX6_outOf_3 : List UInt8 := dkwX6_outOf_3 ++ dktX6_outOf_4
def dkwX6_outOf_2 : List UInt8 := [160, 0, 10, 21, 4, 29, 104, 167, 0, 17, 29, 5, 112, 154, 0, 8, 21, 4, 167, 0, 6, 21, 4, 116]
abbrev dktX6_outOf_2 : List UInt8 := dkwX6_outOf_2 ++ dktX6_outOf_3
def dkwX6_outOf_1 : List UInt8 := [154, 0, 8, 21, 4, 167, 0, 42, 21, 5, 4, 160, 0, 9, 21, 4, 116, 167, 0, 30, 21, 5, 5]
abbrev dktX6_outOf_1 : List UInt8 := dkwX6_outOf_1 ++ dktX6_outOf_2
def dkwX6_outOf_0 : List UInt8 := [42, 180, 0, 21, 16, 6, 27, 96, 46, 54, 4, 42, 180, 1, 47, 180, 1, 2, 27, 46, 54, 5, 21, 5]
abbrev dktX6_outOf_0 : List UInt8 := dkwX6_outOf_0 ++ dktX6_outOf_1
theorem dksX6_outOf_0 : cX6_outOf.data.toList.drop 0 = dktX6_outOf_0 := by decide +kernel
theorem dksX6_outOf_1 : cX6_outOf.data.toList.drop 24 = dktX6_outOf_1 := dk_seg dksX6_outOf_0 24 rfl rfl
theorem dksX6_outOf_2 : cX6_outOf.data.toList.drop 47 = dktX6_outOf_2 := dk_seg dksX6_outOf_1 23 rfl rfl
theorem dksX6_outOf_3 : cX6_outOf.data.toList.drop 71 = dktX6_outOf_3 := dk_seg dksX6_outOf_2 24 rfl rfl
theorem dksX6_outOf_4 : cX6_outOf.data.toList.drop 95 = dktX6_outOf_4 := dk_seg dksX6_outOf_3 24 rfl rfl
theorem dksX6_outOf_5 : cX6_outOf.data.toList.drop 119 = dktX6_outOf_5 := dk_seg dksX6_outOf_4 24 rfl rfl
theorem dX6_outOf_0 : decode cX6_outOf 0 = .ok (.aload_n 0, 1) := dk_42 (dk_at dksX6_outOf_0 0 rfl rfl)
theorem dX6_outOf_1 : decode cX6_outOf 1 = .ok (.getfield 21, 3) := dk_180 0 21 (dk_at dksX6_outOf_0 1 rfl rfl)
theorem dX6_outOf_4 : decode cX6_outOf 4 = .ok (.bipush 6, 2) := dk_16 6 (dk_at dksX6_outOf_0 4 rfl rfl)
theorem dX6_outOf_6 : decode cX6_outOf 6 = .ok (.iload_n 1, 1) := dk_27 (dk_at dksX6_outOf_0 6 rfl rfl)
theorem dX6_outOf_7 : decode cX6_outOf 7 = .ok (.iadd, 1) := dk_96 (dk_at dksX6_outOf_0 7 rfl rfl)
theorem dX6_outOf_8 : decode cX6_outOf 8 = .ok (.iaload, 1) := dk_46 (dk_at dksX6_outOf_0 8 rfl rfl)
theorem dX6_outOf_9 : decode cX6_outOf 9 = .ok (.istore 4, 2) := dk_54 4 (dk_at dksX6_outOf_0 9 rfl rfl)
theorem dX6_outOf_11 : decode cX6_outOf 11 = .ok (.aload_n 0, 1) := dk_42 (dk_at dksX6_outOf_0 11 rfl rfl)
theorem dX6_outOf_12 : decode cX6_outOf 12 = .ok (.getfield 303, 3) := dk_180 1 47 (dk_at dksX6_outOf_0 12 rfl rfl)
theorem dX6_outOf_15 : decode cX6_outOf 15 = .ok (.getfield 258, 3) := dk_180 1 2 (dk_at dksX6_outOf_0 15 rfl rfl)
theorem dX6_outOf_18 : decode cX6_outOf 18 = .ok (.iload_n 1, 1) := dk_27 (dk_at dksX6_outOf_0 18 rfl rfl)
theorem dX6_outOf_19 : decode cX6_outOf 19 = .ok (.iaload, 1) := dk_46 (dk_at dksX6_outOf_0 19 rfl rfl)
theorem dX6_outOf_20 : decode cX6_outOf 20 = .ok (.istore 5, 2) := dk_54 5 (dk_at dksX6_outOf_0 20 rfl rfl)
theorem dX6_outOf_22 : decode cX6_outOf 22 = .ok (.iload 5, 2) := dk_21 5 (dk_at dksX6_outOf_0 22 rfl rfl)
theorem dX6_outOf_24 : decode cX6_outOf 24 = .ok (.ifCond .ne 8, 3) := dk_154 0 8 (dk_at dksX6_outOf_1 0 rfl rfl)
theorem dX6_outOf_27 : decode cX6_outOf 27 = .ok (.iload 4, 2) := dk_21 4 (dk_at dksX6_outOf_1 3 rfl rfl)
theorem dX6_outOf_29 : decode cX6_outOf 29 = .ok (.goto 42, 3) := dk_167 0 42 (dk_at dksX6_outOf_1 5 rfl rfl)
theorem dX6_outOf_32 : decode cX6_outOf 32 = .ok (.iload 5, 2) := dk_21 5 (dk_at dksX6_outOf_1 8 rfl rfl)
theorem dX6_outOf_34 : decode cX6_outOf 34 = .ok (.iconst 1, 1) := dk_4 (dk_at dksX6_outOf_1 10 rfl rfl)
theorem dX6_outOf_35 : decode cX6_outOf 35 = .ok (.if_icmp .ne 9, 3) := dk_160 0 9 (dk_at dksX6_outOf_1 11 rfl rfl)
theorem dX6_outOf_38 : decode cX6_outOf 38 = .ok (.iload 4, 2) := dk_21 4 (dk_at dksX6_outOf_1 14 rfl rfl)
theorem dX6_outOf_40 : decode cX6_outOf 40 = .ok (.ineg, 1) := dk_116 (dk_at dksX6_outOf_1 16 rfl rfl)
theorem dX6_outOf_41 : decode cX6_outOf 41 = .ok (.goto 30, 3) := dk_167 0 30 (dk_at dksX6_outOf_1 17 rfl rfl)
theorem dX6_outOf_44 : decode cX6_outOf 44 = .ok (.iload 5, 2) := dk_21 5 (dk_at dksX6_outOf_1 20 rfl rfl)
theorem dX6_outOf_46 : decode cX6_outOf 46 = .ok (.iconst 2, 1) := dk_5 (dk_at dksX6_outOf_1 22 rfl rfl)
theorem dX6_outOf_47 : decode cX6_outOf 47 = .ok (.if_icmp .ne 10, 3) := dk_160 0 10 (dk_at dksX6_outOf_2 0 rfl rfl)
theorem dX6_outOf_50 : decode cX6_outOf 50 = .ok (.iload 4, 2) := dk_21 4 (dk_at dksX6_outOf_2 3 rfl rfl)
theorem dX6_outOf_52 : decode cX6_outOf 52 = .ok (.iload_n 3, 1) := dk_29 (dk_at dksX6_outOf_2 5 rfl rfl)
theorem dX6_outOf_53 : decode cX6_outOf 53 = .ok (.imul, 1) := dk_104 (dk_at dksX6_outOf_2 6 rfl rfl)
theorem dX6_outOf_54 : decode cX6_outOf 54 = .ok (.goto 17, 3) := dk_167 0 17 (dk_at dksX6_outOf_2 7 rfl rfl)
theorem dX6_outOf_57 : decode cX6_outOf 57 = .ok (.iload_n 3, 1) := dk_29 (dk_at dksX6_outOf_2 10 rfl rfl)
theorem dX6_outOf_58 : decode cX6_outOf 58 = .ok (.iconst 2, 1) := dk_5 (dk_at dksX6_outOf_2 11 rfl rfl)
theorem dX6_outOf_59 : decode cX6_outOf 59 = .ok (.irem, 1) := dk_112 (dk_at dksX6_outOf_2 12 rfl rfl)
theorem dX6_outOf_60 : decode cX6_outOf 60 = .ok (.ifCond .ne 8, 3) := dk_154 0 8 (dk_at dksX6_outOf_2 13 rfl rfl)
theorem dX6_outOf_63 : decode cX6_outOf 63 = .ok (.iload 4, 2) := dk_21 4 (dk_at dksX6_outOf_2 16 rfl rfl)
theorem dX6_outOf_65 : decode cX6_outOf 65 = .ok (.goto 6, 3) := dk_167 0 6 (dk_at dksX6_outOf_2 18 rfl rfl)
theorem dX6_outOf_68 : decode cX6_outOf 68 = .ok (.iload 4, 2) := dk_21 4 (dk_at dksX6_outOf_2 21 rfl rfl)
theorem dX6_outOf_70 : decode cX6_outOf 70 = .ok (.ineg, 1) := dk_116 (dk_at dksX6_outOf_2 23 rfl rfl)
theorem dX6_outOf_71 : decode cX6_outOf 71 = .ok (.istore 6, 2) := dk_54 6 (dk_at dksX6_outOf_3 0 rfl rfl)
theorem dX6_outOf_73 : decode cX6_outOf 73 = .ok (.aload_n 0, 1) := dk_42 (dk_at dksX6_outOf_3 2 rfl rfl)
theorem dX6_outOf_74 : decode cX6_outOf 74 = .ok (.iload_n 2, 1) := dk_28 (dk_at dksX6_outOf_3 3 rfl rfl)
theorem dX6_outOf_75 : decode cX6_outOf 75 = .ok (.iload 6, 2) := dk_21 6 (dk_at dksX6_outOf_3 4 rfl rfl)
theorem dX6_outOf_77 : decode cX6_outOf 77 = .ok (.iadd, 1) := dk_96 (dk_at dksX6_outOf_3 6 rfl rfl)
theorem dX6_outOf_78 : decode cX6_outOf 78 = .ok (.i2l, 1) := dk_133 (dk_at dksX6_outOf_3 7 rfl rfl)
theorem dX6_outOf_79 : decode cX6_outOf 79 = .ok (.invokevirtual 317, 3) := dk_182 1 61 (dk_at dksX6_outOf_3 8 rfl rfl)
theorem dX6_outOf_82 : decode cX6_outOf 82 = .ok (.istore 7, 2) := dk_54 7 (dk_at dksX6_outOf_3 11 rfl rfl)
theorem dX6_outOf_84 : decode cX6_outOf 84 = .ok (.aload_n 0, 1) := dk_42 (dk_at dksX6_outOf_3 13 rfl rfl)
theorem dX6_outOf_85 : decode cX6_outOf 85 = .ok (.getfield 21, 3) := dk_180 0 21 (dk_at dksX6_outOf_3 14 rfl rfl)
theorem dX6_outOf_88 : decode cX6_outOf 88 = .ok (.bipush 12, 2) := dk_16 12 (dk_at dksX6_outOf_3 17 rfl rfl)
theorem dX6_outOf_90 : decode cX6_outOf 90 = .ok (.iload_n 1, 1) := dk_27 (dk_at dksX6_outOf_3 19 rfl rfl)
theorem dX6_outOf_91 : decode cX6_outOf 91 = .ok (.iadd, 1) := dk_96 (dk_at dksX6_outOf_3 20 rfl rfl)
theorem dX6_outOf_92 : decode cX6_outOf 92 = .ok (.iaload, 1) := dk_46 (dk_at dksX6_outOf_3 21 rfl rfl)
theorem dX6_outOf_93 : decode cX6_outOf 93 = .ok (.istore 8, 2) := dk_54 8 (dk_at dksX6_outOf_3 22 rfl rfl)
theorem dX6_outOf_95 : decode cX6_outOf 95 = .ok (.iload 8, 2) := dk_21 8 (dk_at dksX6_outOf_4 0 rfl rfl)
theorem dX6_outOf_97 : decode cX6_outOf 97 = .ok (.bipush (-2), 2) := dk_16 254 (dk_at dksX6_outOf_4 2 rfl rfl)
theorem dX6_outOf_99 : decode cX6_outOf 99 = .ok (.if_icmp .ne 8, 3) := dk_160 0 8 (dk_at dksX6_outOf_4 4 rfl rfl)
theorem dX6_outOf_102 : decode cX6_outOf 102 = .ok (.iload 7, 2) := dk_21 7 (dk_at dksX6_outOf_4 7 rfl rfl)
theorem dX6_outOf_104 : decode cX6_outOf 104 = .ok (.goto 15, 3) := dk_167 0 15 (dk_at dksX6_outOf_4 9 rfl rfl)
theorem dX6_outOf_107 : decode cX6_outOf 107 = .ok (.aload_n 0, 1) := dk_42 (dk_at dksX6_outOf_4 12 rfl rfl)
theorem dX6_outOf_108 : decode cX6_outOf 108 = .ok (.iconst 2, 1) := dk_5 (dk_at dksX6_outOf_4 13 rfl rfl)
theorem dX6_outOf_109 : decode cX6_outOf 109 = .ok (.iload 8, 2) := dk_21 8 (dk_at dksX6_outOf_4 14 rfl rfl)
theorem dX6_outOf_111 : decode cX6_outOf 111 = .ok (.imul, 1) := dk_104 (dk_at dksX6_outOf_4 16 rfl rfl)
theorem dX6_outOf_112 : decode cX6_outOf 112 = .ok (.iload 7, 2) := dk_21 7 (dk_at dksX6_outOf_4 17 rfl rfl)
theorem dX6_outOf_114 : decode cX6_outOf 114 = .ok (.isub, 1) := dk_100 (dk_at dksX6_outOf_4 19 rfl rfl)
theorem dX6_outOf_115 : decode cX6_outOf 115 = .ok (.i2l, 1) := dk_133 (dk_at dksX6_outOf_4 20 rfl rfl)
theorem dX6_outOf_116 : decode cX6_outOf 116 = .ok (.invokevirtual 317, 3) := dk_182 1 61 (dk_at dksX6_outOf_4 21 rfl rfl)
theorem dX6_outOf_119 : decode cX6_outOf 119 = .ok (.ireturn, 1) := dk_172 (dk_at dksX6_outOf_5 0 rfl rfl)
abbrev cX6_around : ByteArray := prog_15_method_48_code
def yX6_around : MethodName := ⟨RX6, "around", "(J)I"⟩
def dkwX6_around_1 : List UInt8 := [180, 0, 159, 133, 113, 136, 172]
abbrev dktX6_around_1 : List UInt8 := dkwX6_around_1 ++ []
def dkwX6_around_0 : List UInt8 := [31, 42, 180, 1, 47, 180, 0, 159, 133, 113, 42, 180, 1, 47, 180, 0, 159, 133, 97, 42, 180, 1, 47]
abbrev dktX6_around_0 : List UInt8 := dkwX6_around_0 ++ dktX6_around_1
theorem dksX6_around_0 : cX6_around.data.toList.drop 0 = dktX6_around_0 := by decide +kernel
theorem dksX6_around_1 : cX6_around.data.toList.drop 23 = dktX6_around_1 := dk_seg dksX6_around_0 23 rfl rfl
theorem dX6_around_0 : decode cX6_around 0 = .ok (.lload_n 1, 1) := dk_31 (dk_at dksX6_around_0 0 rfl rfl)
theorem dX6_around_1 : decode cX6_around 1 = .ok (.aload_n 0, 1) := dk_42 (dk_at dksX6_around_0 1 rfl rfl)
theorem dX6_around_2 : decode cX6_around 2 = .ok (.getfield 303, 3) := dk_180 1 47 (dk_at dksX6_around_0 2 rfl rfl)
theorem dX6_around_5 : decode cX6_around 5 = .ok (.getfield 159, 3) := dk_180 0 159 (dk_at dksX6_around_0 5 rfl rfl)
theorem dX6_around_8 : decode cX6_around 8 = .ok (.i2l, 1) := dk_133 (dk_at dksX6_around_0 8 rfl rfl)
theorem dX6_around_9 : decode cX6_around 9 = .ok (.lrem, 1) := dk_113 (dk_at dksX6_around_0 9 rfl rfl)
theorem dX6_around_10 : decode cX6_around 10 = .ok (.aload_n 0, 1) := dk_42 (dk_at dksX6_around_0 10 rfl rfl)
theorem dX6_around_11 : decode cX6_around 11 = .ok (.getfield 303, 3) := dk_180 1 47 (dk_at dksX6_around_0 11 rfl rfl)
theorem dX6_around_14 : decode cX6_around 14 = .ok (.getfield 159, 3) := dk_180 0 159 (dk_at dksX6_around_0 14 rfl rfl)
theorem dX6_around_17 : decode cX6_around 17 = .ok (.i2l, 1) := dk_133 (dk_at dksX6_around_0 17 rfl rfl)
theorem dX6_around_18 : decode cX6_around 18 = .ok (.ladd, 1) := dk_97 (dk_at dksX6_around_0 18 rfl rfl)
theorem dX6_around_19 : decode cX6_around 19 = .ok (.aload_n 0, 1) := dk_42 (dk_at dksX6_around_0 19 rfl rfl)
theorem dX6_around_20 : decode cX6_around 20 = .ok (.getfield 303, 3) := dk_180 1 47 (dk_at dksX6_around_0 20 rfl rfl)
theorem dX6_around_23 : decode cX6_around 23 = .ok (.getfield 159, 3) := dk_180 0 159 (dk_at dksX6_around_1 0 rfl rfl)
theorem dX6_around_26 : decode cX6_around 26 = .ok (.i2l, 1) := dk_133 (dk_at dksX6_around_1 3 rfl rfl)
theorem dX6_around_27 : decode cX6_around 27 = .ok (.lrem, 1) := dk_113 (dk_at dksX6_around_1 4 rfl rfl)
theorem dX6_around_28 : decode cX6_around 28 = .ok (.l2i, 1) := dk_136 (dk_at dksX6_around_1 5 rfl rfl)
theorem dX6_around_29 : decode cX6_around 29 = .ok (.ireturn, 1) := dk_172 (dk_at dksX6_around_1 6 rfl rfl)
abbrev cX6_heardFrom : ByteArray := prog_15_method_51_code
def yX6_heardFrom : MethodName := ⟨RX6, "heardFrom", "(I)I"⟩
def dkwX6_heardFrom_1 : List UInt8 := [42, 28, 182, 1, 64, 172]
abbrev dktX6_heardFrom_1 : List UInt8 := dkwX6_heardFrom_1 ++ []
def dkwX6_heardFrom_0 : List UInt8 := [27, 61, 42, 28, 182, 1, 64, 16, 254, 160, 0, 15, 42, 28, 4, 96, 133, 182, 1, 61, 61, 167, 255, 237]
abbrev dktX6_heardFrom_0 : List UInt8 := dkwX6_heardFrom_0 ++ dktX6_heardFrom_1
theorem dksX6_heardFrom_0 : cX6_heardFrom.data.toList.drop 0 = dktX6_heardFrom_0 := by decide +kernel
theorem dksX6_heardFrom_1 : cX6_heardFrom.data.toList.drop 24 = dktX6_heardFrom_1 := dk_seg dksX6_heardFrom_0 24 rfl rfl
theorem dX6_heardFrom_0 : decode cX6_heardFrom 0 = .ok (.iload_n 1, 1) := dk_27 (dk_at dksX6_heardFrom_0 0 rfl rfl)
theorem dX6_heardFrom_1 : decode cX6_heardFrom 1 = .ok (.istore_n 2, 1) := dk_61 (dk_at dksX6_heardFrom_0 1 rfl rfl)
theorem dX6_heardFrom_2 : decode cX6_heardFrom 2 = .ok (.aload_n 0, 1) := dk_42 (dk_at dksX6_heardFrom_0 2 rfl rfl)
theorem dX6_heardFrom_3 : decode cX6_heardFrom 3 = .ok (.iload_n 2, 1) := dk_28 (dk_at dksX6_heardFrom_0 3 rfl rfl)
theorem dX6_heardFrom_4 : decode cX6_heardFrom 4 = .ok (.invokevirtual 320, 3) := dk_182 1 64 (dk_at dksX6_heardFrom_0 4 rfl rfl)
theorem dX6_heardFrom_7 : decode cX6_heardFrom 7 = .ok (.bipush (-2), 2) := dk_16 254 (dk_at dksX6_heardFrom_0 7 rfl rfl)
theorem dX6_heardFrom_9 : decode cX6_heardFrom 9 = .ok (.if_icmp .ne 15, 3) := dk_160 0 15 (dk_at dksX6_heardFrom_0 9 rfl rfl)
theorem dX6_heardFrom_12 : decode cX6_heardFrom 12 = .ok (.aload_n 0, 1) := dk_42 (dk_at dksX6_heardFrom_0 12 rfl rfl)
theorem dX6_heardFrom_13 : decode cX6_heardFrom 13 = .ok (.iload_n 2, 1) := dk_28 (dk_at dksX6_heardFrom_0 13 rfl rfl)
theorem dX6_heardFrom_14 : decode cX6_heardFrom 14 = .ok (.iconst 1, 1) := dk_4 (dk_at dksX6_heardFrom_0 14 rfl rfl)
theorem dX6_heardFrom_15 : decode cX6_heardFrom 15 = .ok (.iadd, 1) := dk_96 (dk_at dksX6_heardFrom_0 15 rfl rfl)
theorem dX6_heardFrom_16 : decode cX6_heardFrom 16 = .ok (.i2l, 1) := dk_133 (dk_at dksX6_heardFrom_0 16 rfl rfl)
theorem dX6_heardFrom_17 : decode cX6_heardFrom 17 = .ok (.invokevirtual 317, 3) := dk_182 1 61 (dk_at dksX6_heardFrom_0 17 rfl rfl)
theorem dX6_heardFrom_20 : decode cX6_heardFrom 20 = .ok (.istore_n 2, 1) := dk_61 (dk_at dksX6_heardFrom_0 20 rfl rfl)
theorem dX6_heardFrom_21 : decode cX6_heardFrom 21 = .ok (.goto (-19), 3) := dk_167 255 237 (dk_at dksX6_heardFrom_0 21 rfl rfl)
theorem dX6_heardFrom_24 : decode cX6_heardFrom 24 = .ok (.aload_n 0, 1) := dk_42 (dk_at dksX6_heardFrom_1 0 rfl rfl)
theorem dX6_heardFrom_25 : decode cX6_heardFrom 25 = .ok (.iload_n 2, 1) := dk_28 (dk_at dksX6_heardFrom_1 1 rfl rfl)
theorem dX6_heardFrom_26 : decode cX6_heardFrom 26 = .ok (.invokevirtual 320, 3) := dk_182 1 64 (dk_at dksX6_heardFrom_1 2 rfl rfl)
theorem dX6_heardFrom_29 : decode cX6_heardFrom 29 = .ok (.ireturn, 1) := dk_172 (dk_at dksX6_heardFrom_1 5 rfl rfl)
abbrev cX6_whoIn : ByteArray := prog_15_method_50_code
def yX6_whoIn : MethodName := ⟨RX6, "whoIn", "(I)I"⟩
def dkwX6_whoIn_1 : List UInt8 := [172, 132, 2, 1, 167, 255, 230, 16, 254, 172]
abbrev dktX6_whoIn_1 : List UInt8 := dkwX6_whoIn_1 ++ []
def dkwX6_whoIn_0 : List UInt8 := [3, 61, 28, 42, 180, 1, 47, 180, 0, 193, 162, 0, 21, 42, 180, 0, 21, 28, 46, 27, 160, 0, 5, 28]
abbrev dktX6_whoIn_0 : List UInt8 := dkwX6_whoIn_0 ++ dktX6_whoIn_1
theorem dksX6_whoIn_0 : cX6_whoIn.data.toList.drop 0 = dktX6_whoIn_0 := by decide +kernel
theorem dksX6_whoIn_1 : cX6_whoIn.data.toList.drop 24 = dktX6_whoIn_1 := dk_seg dksX6_whoIn_0 24 rfl rfl
theorem dX6_whoIn_0 : decode cX6_whoIn 0 = .ok (.iconst 0, 1) := dk_3 (dk_at dksX6_whoIn_0 0 rfl rfl)
theorem dX6_whoIn_1 : decode cX6_whoIn 1 = .ok (.istore_n 2, 1) := dk_61 (dk_at dksX6_whoIn_0 1 rfl rfl)
theorem dX6_whoIn_2 : decode cX6_whoIn 2 = .ok (.iload_n 2, 1) := dk_28 (dk_at dksX6_whoIn_0 2 rfl rfl)
theorem dX6_whoIn_3 : decode cX6_whoIn 3 = .ok (.aload_n 0, 1) := dk_42 (dk_at dksX6_whoIn_0 3 rfl rfl)
theorem dX6_whoIn_4 : decode cX6_whoIn 4 = .ok (.getfield 303, 3) := dk_180 1 47 (dk_at dksX6_whoIn_0 4 rfl rfl)
theorem dX6_whoIn_7 : decode cX6_whoIn 7 = .ok (.getfield 193, 3) := dk_180 0 193 (dk_at dksX6_whoIn_0 7 rfl rfl)
theorem dX6_whoIn_10 : decode cX6_whoIn 10 = .ok (.if_icmp .ge 21, 3) := dk_162 0 21 (dk_at dksX6_whoIn_0 10 rfl rfl)
theorem dX6_whoIn_13 : decode cX6_whoIn 13 = .ok (.aload_n 0, 1) := dk_42 (dk_at dksX6_whoIn_0 13 rfl rfl)
theorem dX6_whoIn_14 : decode cX6_whoIn 14 = .ok (.getfield 21, 3) := dk_180 0 21 (dk_at dksX6_whoIn_0 14 rfl rfl)
theorem dX6_whoIn_17 : decode cX6_whoIn 17 = .ok (.iload_n 2, 1) := dk_28 (dk_at dksX6_whoIn_0 17 rfl rfl)
theorem dX6_whoIn_18 : decode cX6_whoIn 18 = .ok (.iaload, 1) := dk_46 (dk_at dksX6_whoIn_0 18 rfl rfl)
theorem dX6_whoIn_19 : decode cX6_whoIn 19 = .ok (.iload_n 1, 1) := dk_27 (dk_at dksX6_whoIn_0 19 rfl rfl)
theorem dX6_whoIn_20 : decode cX6_whoIn 20 = .ok (.if_icmp .ne 5, 3) := dk_160 0 5 (dk_at dksX6_whoIn_0 20 rfl rfl)
theorem dX6_whoIn_23 : decode cX6_whoIn 23 = .ok (.iload_n 2, 1) := dk_28 (dk_at dksX6_whoIn_0 23 rfl rfl)
theorem dX6_whoIn_24 : decode cX6_whoIn 24 = .ok (.ireturn, 1) := dk_172 (dk_at dksX6_whoIn_1 0 rfl rfl)
theorem dX6_whoIn_25 : decode cX6_whoIn 25 = .ok (.iinc 2 1, 3) := dk_132 2 1 (dk_at dksX6_whoIn_1 1 rfl rfl)
theorem dX6_whoIn_28 : decode cX6_whoIn 28 = .ok (.goto (-26), 3) := dk_167 255 230 (dk_at dksX6_whoIn_1 4 rfl rfl)
theorem dX6_whoIn_31 : decode cX6_whoIn 31 = .ok (.bipush (-2), 2) := dk_16 254 (dk_at dksX6_whoIn_1 7 rfl rfl)
theorem dX6_whoIn_33 : decode cX6_whoIn 33 = .ok (.ireturn, 1) := dk_172 (dk_at dksX6_whoIn_1 9 rfl rfl)
abbrev cX6_dead : ByteArray := prog_15_method_59_code
def yX6_dead : MethodName := ⟨RX6, "dead", "(II)I"⟩
def dkwX6_dead_3 : List UInt8 := [180, 1, 7, 27, 46, 167, 0, 12, 42, 180, 0, 17, 16, 12, 27, 96, 46, 182, 0, 59, 172]
abbrev dktX6_dead_3 : List UInt8 := dkwX6_dead_3 ++ []
def dkwX6_dead_2 : List UInt8 := [160, 0, 15, 42, 180, 0, 17, 16, 6, 27, 96, 46, 167, 0, 29, 28, 5, 160, 0, 15, 42, 180, 1, 47]
abbrev dktX6_dead_2 : List UInt8 := dkwX6_dead_2 ++ dktX6_dead_3
def dkwX6_dead_1 : List UInt8 := [182, 0, 55, 172, 42, 28, 154, 0, 15, 42, 180, 1, 47, 180, 1, 2, 27, 46, 167, 0, 46, 28, 4]
abbrev dktX6_dead_1 : List UInt8 := dkwX6_dead_1 ++ dktX6_dead_2
def dkwX6_dead_0 : List UInt8 := [42, 3, 181, 0, 49, 42, 27, 182, 1, 92, 153, 0, 12, 28, 3, 6, 184, 0, 128, 154, 0, 9, 42, 4]
abbrev dktX6_dead_0 : List UInt8 := dkwX6_dead_0 ++ dktX6_dead_1
theorem dksX6_dead_0 : cX6_dead.data.toList.drop 0 = dktX6_dead_0 := by decide +kernel
theorem dksX6_dead_1 : cX6_dead.data.toList.drop 24 = dktX6_dead_1 := dk_seg dksX6_dead_0 24 rfl rfl
theorem dksX6_dead_2 : cX6_dead.data.toList.drop 47 = dktX6_dead_2 := dk_seg dksX6_dead_1 23 rfl rfl
theorem dksX6_dead_3 : cX6_dead.data.toList.drop 71 = dktX6_dead_3 := dk_seg dksX6_dead_2 24 rfl rfl
theorem dX6_dead_0 : decode cX6_dead 0 = .ok (.aload_n 0, 1) := dk_42 (dk_at dksX6_dead_0 0 rfl rfl)
theorem dX6_dead_1 : decode cX6_dead 1 = .ok (.iconst 0, 1) := dk_3 (dk_at dksX6_dead_0 1 rfl rfl)
theorem dX6_dead_2 : decode cX6_dead 2 = .ok (.putfield 49, 3) := dk_181 0 49 (dk_at dksX6_dead_0 2 rfl rfl)
theorem dX6_dead_5 : decode cX6_dead 5 = .ok (.aload_n 0, 1) := dk_42 (dk_at dksX6_dead_0 5 rfl rfl)
theorem dX6_dead_6 : decode cX6_dead 6 = .ok (.iload_n 1, 1) := dk_27 (dk_at dksX6_dead_0 6 rfl rfl)
theorem dX6_dead_7 : decode cX6_dead 7 = .ok (.invokevirtual 348, 3) := dk_182 1 92 (dk_at dksX6_dead_0 7 rfl rfl)
theorem dX6_dead_10 : decode cX6_dead 10 = .ok (.ifCond .eq 12, 3) := dk_153 0 12 (dk_at dksX6_dead_0 10 rfl rfl)
theorem dX6_dead_13 : decode cX6_dead 13 = .ok (.iload_n 2, 1) := dk_28 (dk_at dksX6_dead_0 13 rfl rfl)
theorem dX6_dead_14 : decode cX6_dead 14 = .ok (.iconst 0, 1) := dk_3 (dk_at dksX6_dead_0 14 rfl rfl)
theorem dX6_dead_15 : decode cX6_dead 15 = .ok (.iconst 3, 1) := dk_6 (dk_at dksX6_dead_0 15 rfl rfl)
theorem dX6_dead_16 : decode cX6_dead 16 = .ok (.invokestatic 128, 3) := dk_184 0 128 (dk_at dksX6_dead_0 16 rfl rfl)
theorem dX6_dead_19 : decode cX6_dead 19 = .ok (.ifCond .ne 9, 3) := dk_154 0 9 (dk_at dksX6_dead_0 19 rfl rfl)
theorem dX6_dead_22 : decode cX6_dead 22 = .ok (.aload_n 0, 1) := dk_42 (dk_at dksX6_dead_0 22 rfl rfl)
theorem dX6_dead_23 : decode cX6_dead 23 = .ok (.iconst 1, 1) := dk_4 (dk_at dksX6_dead_0 23 rfl rfl)
theorem dX6_dead_24 : decode cX6_dead 24 = .ok (.invokevirtual 55, 3) := dk_182 0 55 (dk_at dksX6_dead_1 0 rfl rfl)
theorem dX6_dead_27 : decode cX6_dead 27 = .ok (.ireturn, 1) := dk_172 (dk_at dksX6_dead_1 3 rfl rfl)
theorem dX6_dead_28 : decode cX6_dead 28 = .ok (.aload_n 0, 1) := dk_42 (dk_at dksX6_dead_1 4 rfl rfl)
theorem dX6_dead_29 : decode cX6_dead 29 = .ok (.iload_n 2, 1) := dk_28 (dk_at dksX6_dead_1 5 rfl rfl)
theorem dX6_dead_30 : decode cX6_dead 30 = .ok (.ifCond .ne 15, 3) := dk_154 0 15 (dk_at dksX6_dead_1 6 rfl rfl)
theorem dX6_dead_33 : decode cX6_dead 33 = .ok (.aload_n 0, 1) := dk_42 (dk_at dksX6_dead_1 9 rfl rfl)
theorem dX6_dead_34 : decode cX6_dead 34 = .ok (.getfield 303, 3) := dk_180 1 47 (dk_at dksX6_dead_1 10 rfl rfl)
theorem dX6_dead_37 : decode cX6_dead 37 = .ok (.getfield 258, 3) := dk_180 1 2 (dk_at dksX6_dead_1 13 rfl rfl)
theorem dX6_dead_40 : decode cX6_dead 40 = .ok (.iload_n 1, 1) := dk_27 (dk_at dksX6_dead_1 16 rfl rfl)
theorem dX6_dead_41 : decode cX6_dead 41 = .ok (.iaload, 1) := dk_46 (dk_at dksX6_dead_1 17 rfl rfl)
theorem dX6_dead_42 : decode cX6_dead 42 = .ok (.goto 46, 3) := dk_167 0 46 (dk_at dksX6_dead_1 18 rfl rfl)
theorem dX6_dead_45 : decode cX6_dead 45 = .ok (.iload_n 2, 1) := dk_28 (dk_at dksX6_dead_1 21 rfl rfl)
theorem dX6_dead_46 : decode cX6_dead 46 = .ok (.iconst 1, 1) := dk_4 (dk_at dksX6_dead_1 22 rfl rfl)
theorem dX6_dead_47 : decode cX6_dead 47 = .ok (.if_icmp .ne 15, 3) := dk_160 0 15 (dk_at dksX6_dead_2 0 rfl rfl)
theorem dX6_dead_50 : decode cX6_dead 50 = .ok (.aload_n 0, 1) := dk_42 (dk_at dksX6_dead_2 3 rfl rfl)
theorem dX6_dead_51 : decode cX6_dead 51 = .ok (.getfield 17, 3) := dk_180 0 17 (dk_at dksX6_dead_2 4 rfl rfl)
theorem dX6_dead_54 : decode cX6_dead 54 = .ok (.bipush 6, 2) := dk_16 6 (dk_at dksX6_dead_2 7 rfl rfl)
theorem dX6_dead_56 : decode cX6_dead 56 = .ok (.iload_n 1, 1) := dk_27 (dk_at dksX6_dead_2 9 rfl rfl)
theorem dX6_dead_57 : decode cX6_dead 57 = .ok (.iadd, 1) := dk_96 (dk_at dksX6_dead_2 10 rfl rfl)
theorem dX6_dead_58 : decode cX6_dead 58 = .ok (.iaload, 1) := dk_46 (dk_at dksX6_dead_2 11 rfl rfl)
theorem dX6_dead_59 : decode cX6_dead 59 = .ok (.goto 29, 3) := dk_167 0 29 (dk_at dksX6_dead_2 12 rfl rfl)
theorem dX6_dead_62 : decode cX6_dead 62 = .ok (.iload_n 2, 1) := dk_28 (dk_at dksX6_dead_2 15 rfl rfl)
theorem dX6_dead_63 : decode cX6_dead 63 = .ok (.iconst 2, 1) := dk_5 (dk_at dksX6_dead_2 16 rfl rfl)
theorem dX6_dead_64 : decode cX6_dead 64 = .ok (.if_icmp .ne 15, 3) := dk_160 0 15 (dk_at dksX6_dead_2 17 rfl rfl)
theorem dX6_dead_67 : decode cX6_dead 67 = .ok (.aload_n 0, 1) := dk_42 (dk_at dksX6_dead_2 20 rfl rfl)
theorem dX6_dead_68 : decode cX6_dead 68 = .ok (.getfield 303, 3) := dk_180 1 47 (dk_at dksX6_dead_2 21 rfl rfl)
theorem dX6_dead_71 : decode cX6_dead 71 = .ok (.getfield 263, 3) := dk_180 1 7 (dk_at dksX6_dead_3 0 rfl rfl)
theorem dX6_dead_74 : decode cX6_dead 74 = .ok (.iload_n 1, 1) := dk_27 (dk_at dksX6_dead_3 3 rfl rfl)
theorem dX6_dead_75 : decode cX6_dead 75 = .ok (.iaload, 1) := dk_46 (dk_at dksX6_dead_3 4 rfl rfl)
theorem dX6_dead_76 : decode cX6_dead 76 = .ok (.goto 12, 3) := dk_167 0 12 (dk_at dksX6_dead_3 5 rfl rfl)
theorem dX6_dead_79 : decode cX6_dead 79 = .ok (.aload_n 0, 1) := dk_42 (dk_at dksX6_dead_3 8 rfl rfl)
theorem dX6_dead_80 : decode cX6_dead 80 = .ok (.getfield 17, 3) := dk_180 0 17 (dk_at dksX6_dead_3 9 rfl rfl)
theorem dX6_dead_83 : decode cX6_dead 83 = .ok (.bipush 12, 2) := dk_16 12 (dk_at dksX6_dead_3 12 rfl rfl)
theorem dX6_dead_85 : decode cX6_dead 85 = .ok (.iload_n 1, 1) := dk_27 (dk_at dksX6_dead_3 14 rfl rfl)
theorem dX6_dead_86 : decode cX6_dead 86 = .ok (.iadd, 1) := dk_96 (dk_at dksX6_dead_3 15 rfl rfl)
theorem dX6_dead_87 : decode cX6_dead 87 = .ok (.iaload, 1) := dk_46 (dk_at dksX6_dead_3 16 rfl rfl)
theorem dX6_dead_88 : decode cX6_dead 88 = .ok (.invokevirtual 59, 3) := dk_182 0 59 (dk_at dksX6_dead_3 17 rfl rfl)
theorem dX6_dead_91 : decode cX6_dead 91 = .ok (.ireturn, 1) := dk_172 (dk_at dksX6_dead_3 20 rfl rfl)
abbrev cX6_isDead : ByteArray := prog_15_method_44_code
def yX6_isDead : MethodName := ⟨RX6, "isDead", "(I)Z"⟩
def dkwX6_isDead_1 : List UInt8 := [167, 0, 4, 3, 172]
abbrev dktX6_isDead_1 : List UInt8 := dkwX6_isDead_1 ++ []
def dkwX6_isDead_0 : List UInt8 := [42, 180, 1, 47, 198, 0, 22, 27, 155, 0, 18, 27, 42, 180, 1, 47, 180, 0, 241, 162, 0, 7, 4]
abbrev dktX6_isDead_0 : List UInt8 := dkwX6_isDead_0 ++ dktX6_isDead_1
theorem dksX6_isDead_0 : cX6_isDead.data.toList.drop 0 = dktX6_isDead_0 := by decide +kernel
theorem dksX6_isDead_1 : cX6_isDead.data.toList.drop 23 = dktX6_isDead_1 := dk_seg dksX6_isDead_0 23 rfl rfl
theorem dX6_isDead_0 : decode cX6_isDead 0 = .ok (.aload_n 0, 1) := dk_42 (dk_at dksX6_isDead_0 0 rfl rfl)
theorem dX6_isDead_1 : decode cX6_isDead 1 = .ok (.getfield 303, 3) := dk_180 1 47 (dk_at dksX6_isDead_0 1 rfl rfl)
theorem dX6_isDead_4 : decode cX6_isDead 4 = .ok (.ifnull 22, 3) := dk_198 0 22 (dk_at dksX6_isDead_0 4 rfl rfl)
theorem dX6_isDead_7 : decode cX6_isDead 7 = .ok (.iload_n 1, 1) := dk_27 (dk_at dksX6_isDead_0 7 rfl rfl)
theorem dX6_isDead_8 : decode cX6_isDead 8 = .ok (.ifCond .lt 18, 3) := dk_155 0 18 (dk_at dksX6_isDead_0 8 rfl rfl)
theorem dX6_isDead_11 : decode cX6_isDead 11 = .ok (.iload_n 1, 1) := dk_27 (dk_at dksX6_isDead_0 11 rfl rfl)
theorem dX6_isDead_12 : decode cX6_isDead 12 = .ok (.aload_n 0, 1) := dk_42 (dk_at dksX6_isDead_0 12 rfl rfl)
theorem dX6_isDead_13 : decode cX6_isDead 13 = .ok (.getfield 303, 3) := dk_180 1 47 (dk_at dksX6_isDead_0 13 rfl rfl)
theorem dX6_isDead_16 : decode cX6_isDead 16 = .ok (.getfield 241, 3) := dk_180 0 241 (dk_at dksX6_isDead_0 16 rfl rfl)
theorem dX6_isDead_19 : decode cX6_isDead 19 = .ok (.if_icmp .ge 7, 3) := dk_162 0 7 (dk_at dksX6_isDead_0 19 rfl rfl)
theorem dX6_isDead_22 : decode cX6_isDead 22 = .ok (.iconst 1, 1) := dk_4 (dk_at dksX6_isDead_0 22 rfl rfl)
theorem dX6_isDead_23 : decode cX6_isDead 23 = .ok (.goto 4, 3) := dk_167 0 4 (dk_at dksX6_isDead_1 0 rfl rfl)
theorem dX6_isDead_26 : decode cX6_isDead 26 = .ok (.iconst 0, 1) := dk_3 (dk_at dksX6_isDead_1 3 rfl rfl)
theorem dX6_isDead_27 : decode cX6_isDead 27 = .ok (.ireturn, 1) := dk_172 (dk_at dksX6_isDead_1 4 rfl rfl)
abbrev cX6_house : ByteArray := prog_15_method_60_code
def yX6_house : MethodName := ⟨RX6, "house", "(I)I"⟩
def dkwX6_house_1 : List UInt8 := [42, 27, 182, 1, 64, 182, 0, 59, 172]
abbrev dktX6_house_1 : List UInt8 := dkwX6_house_1 ++ []
def dkwX6_house_0 : List UInt8 := [42, 3, 181, 0, 49, 42, 27, 182, 1, 95, 154, 0, 9, 42, 4, 182, 0, 55, 172, 42, 182, 1, 86, 42]
abbrev dktX6_house_0 : List UInt8 := dkwX6_house_0 ++ dktX6_house_1
theorem dksX6_house_0 : cX6_house.data.toList.drop 0 = dktX6_house_0 := by decide +kernel
theorem dksX6_house_1 : cX6_house.data.toList.drop 24 = dktX6_house_1 := dk_seg dksX6_house_0 24 rfl rfl
theorem dX6_house_0 : decode cX6_house 0 = .ok (.aload_n 0, 1) := dk_42 (dk_at dksX6_house_0 0 rfl rfl)
theorem dX6_house_1 : decode cX6_house 1 = .ok (.iconst 0, 1) := dk_3 (dk_at dksX6_house_0 1 rfl rfl)
theorem dX6_house_2 : decode cX6_house 2 = .ok (.putfield 49, 3) := dk_181 0 49 (dk_at dksX6_house_0 2 rfl rfl)
theorem dX6_house_5 : decode cX6_house 5 = .ok (.aload_n 0, 1) := dk_42 (dk_at dksX6_house_0 5 rfl rfl)
theorem dX6_house_6 : decode cX6_house 6 = .ok (.iload_n 1, 1) := dk_27 (dk_at dksX6_house_0 6 rfl rfl)
theorem dX6_house_7 : decode cX6_house 7 = .ok (.invokevirtual 351, 3) := dk_182 1 95 (dk_at dksX6_house_0 7 rfl rfl)
theorem dX6_house_10 : decode cX6_house 10 = .ok (.ifCond .ne 9, 3) := dk_154 0 9 (dk_at dksX6_house_0 10 rfl rfl)
theorem dX6_house_13 : decode cX6_house 13 = .ok (.aload_n 0, 1) := dk_42 (dk_at dksX6_house_0 13 rfl rfl)
theorem dX6_house_14 : decode cX6_house 14 = .ok (.iconst 1, 1) := dk_4 (dk_at dksX6_house_0 14 rfl rfl)
theorem dX6_house_15 : decode cX6_house 15 = .ok (.invokevirtual 55, 3) := dk_182 0 55 (dk_at dksX6_house_0 15 rfl rfl)
theorem dX6_house_18 : decode cX6_house 18 = .ok (.ireturn, 1) := dk_172 (dk_at dksX6_house_0 18 rfl rfl)
theorem dX6_house_19 : decode cX6_house 19 = .ok (.aload_n 0, 1) := dk_42 (dk_at dksX6_house_0 19 rfl rfl)
theorem dX6_house_20 : decode cX6_house 20 = .ok (.invokevirtual 342, 3) := dk_182 1 86 (dk_at dksX6_house_0 20 rfl rfl)
theorem dX6_house_23 : decode cX6_house 23 = .ok (.aload_n 0, 1) := dk_42 (dk_at dksX6_house_0 23 rfl rfl)
theorem dX6_house_24 : decode cX6_house 24 = .ok (.aload_n 0, 1) := dk_42 (dk_at dksX6_house_1 0 rfl rfl)
theorem dX6_house_25 : decode cX6_house 25 = .ok (.iload_n 1, 1) := dk_27 (dk_at dksX6_house_1 1 rfl rfl)
theorem dX6_house_26 : decode cX6_house 26 = .ok (.invokevirtual 320, 3) := dk_182 1 64 (dk_at dksX6_house_1 2 rfl rfl)
theorem dX6_house_29 : decode cX6_house 29 = .ok (.invokevirtual 59, 3) := dk_182 0 59 (dk_at dksX6_house_1 5 rfl rfl)
theorem dX6_house_32 : decode cX6_house 32 = .ok (.ireturn, 1) := dk_172 (dk_at dksX6_house_1 8 rfl rfl)
abbrev cX6_isHouse : ByteArray := prog_15_method_45_code
def yX6_isHouse : MethodName := ⟨RX6, "isHouse", "(I)Z"⟩
def dkwX6_isHouse_1 : List UInt8 := [167, 0, 4, 3, 172]
abbrev dktX6_isHouse_1 : List UInt8 := dkwX6_isHouse_1 ++ []
def dkwX6_isHouse_0 : List UInt8 := [42, 180, 1, 47, 198, 0, 22, 27, 155, 0, 18, 27, 42, 180, 1, 47, 180, 0, 159, 162, 0, 7, 4]
abbrev dktX6_isHouse_0 : List UInt8 := dkwX6_isHouse_0 ++ dktX6_isHouse_1
theorem dksX6_isHouse_0 : cX6_isHouse.data.toList.drop 0 = dktX6_isHouse_0 := by decide +kernel
theorem dksX6_isHouse_1 : cX6_isHouse.data.toList.drop 23 = dktX6_isHouse_1 := dk_seg dksX6_isHouse_0 23 rfl rfl
theorem dX6_isHouse_0 : decode cX6_isHouse 0 = .ok (.aload_n 0, 1) := dk_42 (dk_at dksX6_isHouse_0 0 rfl rfl)
theorem dX6_isHouse_1 : decode cX6_isHouse 1 = .ok (.getfield 303, 3) := dk_180 1 47 (dk_at dksX6_isHouse_0 1 rfl rfl)
theorem dX6_isHouse_4 : decode cX6_isHouse 4 = .ok (.ifnull 22, 3) := dk_198 0 22 (dk_at dksX6_isHouse_0 4 rfl rfl)
theorem dX6_isHouse_7 : decode cX6_isHouse 7 = .ok (.iload_n 1, 1) := dk_27 (dk_at dksX6_isHouse_0 7 rfl rfl)
theorem dX6_isHouse_8 : decode cX6_isHouse 8 = .ok (.ifCond .lt 18, 3) := dk_155 0 18 (dk_at dksX6_isHouse_0 8 rfl rfl)
theorem dX6_isHouse_11 : decode cX6_isHouse 11 = .ok (.iload_n 1, 1) := dk_27 (dk_at dksX6_isHouse_0 11 rfl rfl)
theorem dX6_isHouse_12 : decode cX6_isHouse 12 = .ok (.aload_n 0, 1) := dk_42 (dk_at dksX6_isHouse_0 12 rfl rfl)
theorem dX6_isHouse_13 : decode cX6_isHouse 13 = .ok (.getfield 303, 3) := dk_180 1 47 (dk_at dksX6_isHouse_0 13 rfl rfl)
theorem dX6_isHouse_16 : decode cX6_isHouse 16 = .ok (.getfield 159, 3) := dk_180 0 159 (dk_at dksX6_isHouse_0 16 rfl rfl)
theorem dX6_isHouse_19 : decode cX6_isHouse 19 = .ok (.if_icmp .ge 7, 3) := dk_162 0 7 (dk_at dksX6_isHouse_0 19 rfl rfl)
theorem dX6_isHouse_22 : decode cX6_isHouse 22 = .ok (.iconst 1, 1) := dk_4 (dk_at dksX6_isHouse_0 22 rfl rfl)
theorem dX6_isHouse_23 : decode cX6_isHouse 23 = .ok (.goto 4, 3) := dk_167 0 4 (dk_at dksX6_isHouse_1 0 rfl rfl)
theorem dX6_isHouse_26 : decode cX6_isHouse 26 = .ok (.iconst 0, 1) := dk_3 (dk_at dksX6_isHouse_1 3 rfl rfl)
theorem dX6_isHouse_27 : decode cX6_isHouse 27 = .ok (.ireturn, 1) := dk_172 (dk_at dksX6_isHouse_1 4 rfl rfl)
abbrev cX6_comesOut : ByteArray := prog_15_method_61_code
def yX6_comesOut : MethodName := ⟨RX6, "comesOut", "(II)I"⟩
def dkwX6_comesOut_1 : List UInt8 := [182, 0, 55, 172, 42, 182, 1, 86, 42, 42, 27, 42, 27, 182, 1, 67, 28, 182, 1, 70, 182, 0, 59, 172]
abbrev dktX6_comesOut_1 : List UInt8 := dkwX6_comesOut_1 ++ []
def dkwX6_comesOut_0 : List UInt8 := [42, 3, 181, 0, 49, 42, 42, 27, 182, 1, 92, 28, 182, 1, 98, 62, 29, 158, 0, 9, 42, 29]
abbrev dktX6_comesOut_0 : List UInt8 := dkwX6_comesOut_0 ++ dktX6_comesOut_1
theorem dksX6_comesOut_0 : cX6_comesOut.data.toList.drop 0 = dktX6_comesOut_0 := by decide +kernel
theorem dksX6_comesOut_1 : cX6_comesOut.data.toList.drop 22 = dktX6_comesOut_1 := dk_seg dksX6_comesOut_0 22 rfl rfl
theorem dX6_comesOut_0 : decode cX6_comesOut 0 = .ok (.aload_n 0, 1) := dk_42 (dk_at dksX6_comesOut_0 0 rfl rfl)
theorem dX6_comesOut_1 : decode cX6_comesOut 1 = .ok (.iconst 0, 1) := dk_3 (dk_at dksX6_comesOut_0 1 rfl rfl)
theorem dX6_comesOut_2 : decode cX6_comesOut 2 = .ok (.putfield 49, 3) := dk_181 0 49 (dk_at dksX6_comesOut_0 2 rfl rfl)
theorem dX6_comesOut_5 : decode cX6_comesOut 5 = .ok (.aload_n 0, 1) := dk_42 (dk_at dksX6_comesOut_0 5 rfl rfl)
theorem dX6_comesOut_6 : decode cX6_comesOut 6 = .ok (.aload_n 0, 1) := dk_42 (dk_at dksX6_comesOut_0 6 rfl rfl)
theorem dX6_comesOut_7 : decode cX6_comesOut 7 = .ok (.iload_n 1, 1) := dk_27 (dk_at dksX6_comesOut_0 7 rfl rfl)
theorem dX6_comesOut_8 : decode cX6_comesOut 8 = .ok (.invokevirtual 348, 3) := dk_182 1 92 (dk_at dksX6_comesOut_0 8 rfl rfl)
theorem dX6_comesOut_11 : decode cX6_comesOut 11 = .ok (.iload_n 2, 1) := dk_28 (dk_at dksX6_comesOut_0 11 rfl rfl)
theorem dX6_comesOut_12 : decode cX6_comesOut 12 = .ok (.invokevirtual 354, 3) := dk_182 1 98 (dk_at dksX6_comesOut_0 12 rfl rfl)
theorem dX6_comesOut_15 : decode cX6_comesOut 15 = .ok (.istore_n 3, 1) := dk_62 (dk_at dksX6_comesOut_0 15 rfl rfl)
theorem dX6_comesOut_16 : decode cX6_comesOut 16 = .ok (.iload_n 3, 1) := dk_29 (dk_at dksX6_comesOut_0 16 rfl rfl)
theorem dX6_comesOut_17 : decode cX6_comesOut 17 = .ok (.ifCond .le 9, 3) := dk_158 0 9 (dk_at dksX6_comesOut_0 17 rfl rfl)
theorem dX6_comesOut_20 : decode cX6_comesOut 20 = .ok (.aload_n 0, 1) := dk_42 (dk_at dksX6_comesOut_0 20 rfl rfl)
theorem dX6_comesOut_21 : decode cX6_comesOut 21 = .ok (.iload_n 3, 1) := dk_29 (dk_at dksX6_comesOut_0 21 rfl rfl)
theorem dX6_comesOut_22 : decode cX6_comesOut 22 = .ok (.invokevirtual 55, 3) := dk_182 0 55 (dk_at dksX6_comesOut_1 0 rfl rfl)
theorem dX6_comesOut_25 : decode cX6_comesOut 25 = .ok (.ireturn, 1) := dk_172 (dk_at dksX6_comesOut_1 3 rfl rfl)
theorem dX6_comesOut_26 : decode cX6_comesOut 26 = .ok (.aload_n 0, 1) := dk_42 (dk_at dksX6_comesOut_1 4 rfl rfl)
theorem dX6_comesOut_27 : decode cX6_comesOut 27 = .ok (.invokevirtual 342, 3) := dk_182 1 86 (dk_at dksX6_comesOut_1 5 rfl rfl)
theorem dX6_comesOut_30 : decode cX6_comesOut 30 = .ok (.aload_n 0, 1) := dk_42 (dk_at dksX6_comesOut_1 8 rfl rfl)
theorem dX6_comesOut_31 : decode cX6_comesOut 31 = .ok (.aload_n 0, 1) := dk_42 (dk_at dksX6_comesOut_1 9 rfl rfl)
theorem dX6_comesOut_32 : decode cX6_comesOut 32 = .ok (.iload_n 1, 1) := dk_27 (dk_at dksX6_comesOut_1 10 rfl rfl)
theorem dX6_comesOut_33 : decode cX6_comesOut 33 = .ok (.aload_n 0, 1) := dk_42 (dk_at dksX6_comesOut_1 11 rfl rfl)
theorem dX6_comesOut_34 : decode cX6_comesOut 34 = .ok (.iload_n 1, 1) := dk_27 (dk_at dksX6_comesOut_1 12 rfl rfl)
theorem dX6_comesOut_35 : decode cX6_comesOut 35 = .ok (.invokevirtual 323, 3) := dk_182 1 67 (dk_at dksX6_comesOut_1 13 rfl rfl)
theorem dX6_comesOut_38 : decode cX6_comesOut 38 = .ok (.iload_n 2, 1) := dk_28 (dk_at dksX6_comesOut_1 16 rfl rfl)
theorem dX6_comesOut_39 : decode cX6_comesOut 39 = .ok (.invokevirtual 326, 3) := dk_182 1 70 (dk_at dksX6_comesOut_1 17 rfl rfl)
theorem dX6_comesOut_42 : decode cX6_comesOut 42 = .ok (.invokevirtual 59, 3) := dk_182 0 59 (dk_at dksX6_comesOut_1 20 rfl rfl)
theorem dX6_comesOut_45 : decode cX6_comesOut 45 = .ok (.ireturn, 1) := dk_172 (dk_at dksX6_comesOut_1 23 rfl rfl)
abbrev cX6_refusesNight : ByteArray := prog_15_method_56_code
def yX6_refusesNight : MethodName := ⟨RX6, "refusesNight", "(ZI)I"⟩
def dkwX6_refusesNight_0 : List UInt8 := [27, 154, 0, 7, 4, 167, 0, 18, 28, 3, 16, 99, 184, 0, 128, 153, 0, 7, 3, 167, 0, 4, 5, 172]
abbrev dktX6_refusesNight_0 : List UInt8 := dkwX6_refusesNight_0 ++ []
theorem dksX6_refusesNight_0 : cX6_refusesNight.data.toList.drop 0 = dktX6_refusesNight_0 := by decide +kernel
theorem dX6_refusesNight_0 : decode cX6_refusesNight 0 = .ok (.iload_n 1, 1) := dk_27 (dk_at dksX6_refusesNight_0 0 rfl rfl)
theorem dX6_refusesNight_1 : decode cX6_refusesNight 1 = .ok (.ifCond .ne 7, 3) := dk_154 0 7 (dk_at dksX6_refusesNight_0 1 rfl rfl)
theorem dX6_refusesNight_4 : decode cX6_refusesNight 4 = .ok (.iconst 1, 1) := dk_4 (dk_at dksX6_refusesNight_0 4 rfl rfl)
theorem dX6_refusesNight_5 : decode cX6_refusesNight 5 = .ok (.goto 18, 3) := dk_167 0 18 (dk_at dksX6_refusesNight_0 5 rfl rfl)
theorem dX6_refusesNight_8 : decode cX6_refusesNight 8 = .ok (.iload_n 2, 1) := dk_28 (dk_at dksX6_refusesNight_0 8 rfl rfl)
theorem dX6_refusesNight_9 : decode cX6_refusesNight 9 = .ok (.iconst 0, 1) := dk_3 (dk_at dksX6_refusesNight_0 9 rfl rfl)
theorem dX6_refusesNight_10 : decode cX6_refusesNight 10 = .ok (.bipush 99, 2) := dk_16 99 (dk_at dksX6_refusesNight_0 10 rfl rfl)
theorem dX6_refusesNight_12 : decode cX6_refusesNight 12 = .ok (.invokestatic 128, 3) := dk_184 0 128 (dk_at dksX6_refusesNight_0 12 rfl rfl)
theorem dX6_refusesNight_15 : decode cX6_refusesNight 15 = .ok (.ifCond .eq 7, 3) := dk_153 0 7 (dk_at dksX6_refusesNight_0 15 rfl rfl)
theorem dX6_refusesNight_18 : decode cX6_refusesNight 18 = .ok (.iconst 0, 1) := dk_3 (dk_at dksX6_refusesNight_0 18 rfl rfl)
theorem dX6_refusesNight_19 : decode cX6_refusesNight 19 = .ok (.goto 4, 3) := dk_167 0 4 (dk_at dksX6_refusesNight_0 19 rfl rfl)
theorem dX6_refusesNight_22 : decode cX6_refusesNight 22 = .ok (.iconst 2, 1) := dk_5 (dk_at dksX6_refusesNight_0 22 rfl rfl)
theorem dX6_refusesNight_23 : decode cX6_refusesNight 23 = .ok (.ireturn, 1) := dk_172 (dk_at dksX6_refusesNight_0 23 rfl rfl)
abbrev cX6_outIf : ByteArray := prog_15_method_62_code
def yX6_outIf : MethodName := ⟨RX6, "outIf", "(III)I"⟩
def dkwX6_outIf_2 : List UInt8 := [182, 1, 86, 42, 42, 27, 28, 29, 182, 1, 70, 182, 0, 59, 172]
abbrev dktX6_outIf_2 : List UInt8 := dkwX6_outIf_2 ++ []
def dkwX6_outIf_1 : List UInt8 := [167, 0, 4, 3, 29, 182, 1, 98, 54, 4, 21, 4, 158, 0, 10, 42, 21, 4, 182, 0, 55, 172, 42]
abbrev dktX6_outIf_1 : List UInt8 := dkwX6_outIf_1 ++ dktX6_outIf_2
def dkwX6_outIf_0 : List UInt8 := [42, 3, 181, 0, 49, 42, 42, 27, 182, 1, 92, 153, 0, 15, 42, 28, 182, 1, 95, 153, 0, 7, 4]
abbrev dktX6_outIf_0 : List UInt8 := dkwX6_outIf_0 ++ dktX6_outIf_1
theorem dksX6_outIf_0 : cX6_outIf.data.toList.drop 0 = dktX6_outIf_0 := by decide +kernel
theorem dksX6_outIf_1 : cX6_outIf.data.toList.drop 23 = dktX6_outIf_1 := dk_seg dksX6_outIf_0 23 rfl rfl
theorem dksX6_outIf_2 : cX6_outIf.data.toList.drop 46 = dktX6_outIf_2 := dk_seg dksX6_outIf_1 23 rfl rfl
theorem dX6_outIf_0 : decode cX6_outIf 0 = .ok (.aload_n 0, 1) := dk_42 (dk_at dksX6_outIf_0 0 rfl rfl)
theorem dX6_outIf_1 : decode cX6_outIf 1 = .ok (.iconst 0, 1) := dk_3 (dk_at dksX6_outIf_0 1 rfl rfl)
theorem dX6_outIf_2 : decode cX6_outIf 2 = .ok (.putfield 49, 3) := dk_181 0 49 (dk_at dksX6_outIf_0 2 rfl rfl)
theorem dX6_outIf_5 : decode cX6_outIf 5 = .ok (.aload_n 0, 1) := dk_42 (dk_at dksX6_outIf_0 5 rfl rfl)
theorem dX6_outIf_6 : decode cX6_outIf 6 = .ok (.aload_n 0, 1) := dk_42 (dk_at dksX6_outIf_0 6 rfl rfl)
theorem dX6_outIf_7 : decode cX6_outIf 7 = .ok (.iload_n 1, 1) := dk_27 (dk_at dksX6_outIf_0 7 rfl rfl)
theorem dX6_outIf_8 : decode cX6_outIf 8 = .ok (.invokevirtual 348, 3) := dk_182 1 92 (dk_at dksX6_outIf_0 8 rfl rfl)
theorem dX6_outIf_11 : decode cX6_outIf 11 = .ok (.ifCond .eq 15, 3) := dk_153 0 15 (dk_at dksX6_outIf_0 11 rfl rfl)
theorem dX6_outIf_14 : decode cX6_outIf 14 = .ok (.aload_n 0, 1) := dk_42 (dk_at dksX6_outIf_0 14 rfl rfl)
theorem dX6_outIf_15 : decode cX6_outIf 15 = .ok (.iload_n 2, 1) := dk_28 (dk_at dksX6_outIf_0 15 rfl rfl)
theorem dX6_outIf_16 : decode cX6_outIf 16 = .ok (.invokevirtual 351, 3) := dk_182 1 95 (dk_at dksX6_outIf_0 16 rfl rfl)
theorem dX6_outIf_19 : decode cX6_outIf 19 = .ok (.ifCond .eq 7, 3) := dk_153 0 7 (dk_at dksX6_outIf_0 19 rfl rfl)
theorem dX6_outIf_22 : decode cX6_outIf 22 = .ok (.iconst 1, 1) := dk_4 (dk_at dksX6_outIf_0 22 rfl rfl)
theorem dX6_outIf_23 : decode cX6_outIf 23 = .ok (.goto 4, 3) := dk_167 0 4 (dk_at dksX6_outIf_1 0 rfl rfl)
theorem dX6_outIf_26 : decode cX6_outIf 26 = .ok (.iconst 0, 1) := dk_3 (dk_at dksX6_outIf_1 3 rfl rfl)
theorem dX6_outIf_27 : decode cX6_outIf 27 = .ok (.iload_n 3, 1) := dk_29 (dk_at dksX6_outIf_1 4 rfl rfl)
theorem dX6_outIf_28 : decode cX6_outIf 28 = .ok (.invokevirtual 354, 3) := dk_182 1 98 (dk_at dksX6_outIf_1 5 rfl rfl)
theorem dX6_outIf_31 : decode cX6_outIf 31 = .ok (.istore 4, 2) := dk_54 4 (dk_at dksX6_outIf_1 8 rfl rfl)
theorem dX6_outIf_33 : decode cX6_outIf 33 = .ok (.iload 4, 2) := dk_21 4 (dk_at dksX6_outIf_1 10 rfl rfl)
theorem dX6_outIf_35 : decode cX6_outIf 35 = .ok (.ifCond .le 10, 3) := dk_158 0 10 (dk_at dksX6_outIf_1 12 rfl rfl)
theorem dX6_outIf_38 : decode cX6_outIf 38 = .ok (.aload_n 0, 1) := dk_42 (dk_at dksX6_outIf_1 15 rfl rfl)
theorem dX6_outIf_39 : decode cX6_outIf 39 = .ok (.iload 4, 2) := dk_21 4 (dk_at dksX6_outIf_1 16 rfl rfl)
theorem dX6_outIf_41 : decode cX6_outIf 41 = .ok (.invokevirtual 55, 3) := dk_182 0 55 (dk_at dksX6_outIf_1 18 rfl rfl)
theorem dX6_outIf_44 : decode cX6_outIf 44 = .ok (.ireturn, 1) := dk_172 (dk_at dksX6_outIf_1 21 rfl rfl)
theorem dX6_outIf_45 : decode cX6_outIf 45 = .ok (.aload_n 0, 1) := dk_42 (dk_at dksX6_outIf_1 22 rfl rfl)
theorem dX6_outIf_46 : decode cX6_outIf 46 = .ok (.invokevirtual 342, 3) := dk_182 1 86 (dk_at dksX6_outIf_2 0 rfl rfl)
theorem dX6_outIf_49 : decode cX6_outIf 49 = .ok (.aload_n 0, 1) := dk_42 (dk_at dksX6_outIf_2 3 rfl rfl)
theorem dX6_outIf_50 : decode cX6_outIf 50 = .ok (.aload_n 0, 1) := dk_42 (dk_at dksX6_outIf_2 4 rfl rfl)
theorem dX6_outIf_51 : decode cX6_outIf 51 = .ok (.iload_n 1, 1) := dk_27 (dk_at dksX6_outIf_2 5 rfl rfl)
theorem dX6_outIf_52 : decode cX6_outIf 52 = .ok (.iload_n 2, 1) := dk_28 (dk_at dksX6_outIf_2 6 rfl rfl)
theorem dX6_outIf_53 : decode cX6_outIf 53 = .ok (.iload_n 3, 1) := dk_29 (dk_at dksX6_outIf_2 7 rfl rfl)
theorem dX6_outIf_54 : decode cX6_outIf 54 = .ok (.invokevirtual 326, 3) := dk_182 1 70 (dk_at dksX6_outIf_2 8 rfl rfl)
theorem dX6_outIf_57 : decode cX6_outIf 57 = .ok (.invokevirtual 59, 3) := dk_182 0 59 (dk_at dksX6_outIf_2 11 rfl rfl)
theorem dX6_outIf_60 : decode cX6_outIf 60 = .ok (.ireturn, 1) := dk_172 (dk_at dksX6_outIf_2 14 rfl rfl)
abbrev cX6_hears : ByteArray := prog_15_method_63_code
def yX6_hears : MethodName := ⟨RX6, "hears", "(II)I"⟩
def dkwX6_hears_1 : List UInt8 := [182, 0, 55, 172, 42, 182, 1, 86, 42, 42, 27, 28, 182, 1, 77, 182, 0, 59, 172]
abbrev dktX6_hears_1 : List UInt8 := dkwX6_hears_1 ++ []
def dkwX6_hears_0 : List UInt8 := [42, 3, 181, 0, 49, 42, 42, 27, 182, 1, 92, 28, 182, 1, 98, 62, 29, 158, 0, 9, 42, 29]
abbrev dktX6_hears_0 : List UInt8 := dkwX6_hears_0 ++ dktX6_hears_1
theorem dksX6_hears_0 : cX6_hears.data.toList.drop 0 = dktX6_hears_0 := by decide +kernel
theorem dksX6_hears_1 : cX6_hears.data.toList.drop 22 = dktX6_hears_1 := dk_seg dksX6_hears_0 22 rfl rfl
theorem dX6_hears_0 : decode cX6_hears 0 = .ok (.aload_n 0, 1) := dk_42 (dk_at dksX6_hears_0 0 rfl rfl)
theorem dX6_hears_1 : decode cX6_hears 1 = .ok (.iconst 0, 1) := dk_3 (dk_at dksX6_hears_0 1 rfl rfl)
theorem dX6_hears_2 : decode cX6_hears 2 = .ok (.putfield 49, 3) := dk_181 0 49 (dk_at dksX6_hears_0 2 rfl rfl)
theorem dX6_hears_5 : decode cX6_hears 5 = .ok (.aload_n 0, 1) := dk_42 (dk_at dksX6_hears_0 5 rfl rfl)
theorem dX6_hears_6 : decode cX6_hears 6 = .ok (.aload_n 0, 1) := dk_42 (dk_at dksX6_hears_0 6 rfl rfl)
theorem dX6_hears_7 : decode cX6_hears 7 = .ok (.iload_n 1, 1) := dk_27 (dk_at dksX6_hears_0 7 rfl rfl)
theorem dX6_hears_8 : decode cX6_hears 8 = .ok (.invokevirtual 348, 3) := dk_182 1 92 (dk_at dksX6_hears_0 8 rfl rfl)
theorem dX6_hears_11 : decode cX6_hears 11 = .ok (.iload_n 2, 1) := dk_28 (dk_at dksX6_hears_0 11 rfl rfl)
theorem dX6_hears_12 : decode cX6_hears 12 = .ok (.invokevirtual 354, 3) := dk_182 1 98 (dk_at dksX6_hears_0 12 rfl rfl)
theorem dX6_hears_15 : decode cX6_hears 15 = .ok (.istore_n 3, 1) := dk_62 (dk_at dksX6_hears_0 15 rfl rfl)
theorem dX6_hears_16 : decode cX6_hears 16 = .ok (.iload_n 3, 1) := dk_29 (dk_at dksX6_hears_0 16 rfl rfl)
theorem dX6_hears_17 : decode cX6_hears 17 = .ok (.ifCond .le 9, 3) := dk_158 0 9 (dk_at dksX6_hears_0 17 rfl rfl)
theorem dX6_hears_20 : decode cX6_hears 20 = .ok (.aload_n 0, 1) := dk_42 (dk_at dksX6_hears_0 20 rfl rfl)
theorem dX6_hears_21 : decode cX6_hears 21 = .ok (.iload_n 3, 1) := dk_29 (dk_at dksX6_hears_0 21 rfl rfl)
theorem dX6_hears_22 : decode cX6_hears 22 = .ok (.invokevirtual 55, 3) := dk_182 0 55 (dk_at dksX6_hears_1 0 rfl rfl)
theorem dX6_hears_25 : decode cX6_hears 25 = .ok (.ireturn, 1) := dk_172 (dk_at dksX6_hears_1 3 rfl rfl)
theorem dX6_hears_26 : decode cX6_hears 26 = .ok (.aload_n 0, 1) := dk_42 (dk_at dksX6_hears_1 4 rfl rfl)
theorem dX6_hears_27 : decode cX6_hears 27 = .ok (.invokevirtual 342, 3) := dk_182 1 86 (dk_at dksX6_hears_1 5 rfl rfl)
theorem dX6_hears_30 : decode cX6_hears 30 = .ok (.aload_n 0, 1) := dk_42 (dk_at dksX6_hears_1 8 rfl rfl)
theorem dX6_hears_31 : decode cX6_hears 31 = .ok (.aload_n 0, 1) := dk_42 (dk_at dksX6_hears_1 9 rfl rfl)
theorem dX6_hears_32 : decode cX6_hears 32 = .ok (.iload_n 1, 1) := dk_27 (dk_at dksX6_hears_1 10 rfl rfl)
theorem dX6_hears_33 : decode cX6_hears 33 = .ok (.iload_n 2, 1) := dk_28 (dk_at dksX6_hears_1 11 rfl rfl)
theorem dX6_hears_34 : decode cX6_hears 34 = .ok (.invokevirtual 333, 3) := dk_182 1 77 (dk_at dksX6_hears_1 12 rfl rfl)
theorem dX6_hears_37 : decode cX6_hears 37 = .ok (.invokevirtual 59, 3) := dk_182 0 59 (dk_at dksX6_hears_1 15 rfl rfl)
theorem dX6_hears_40 : decode cX6_hears 40 = .ok (.ireturn, 1) := dk_172 (dk_at dksX6_hears_1 18 rfl rfl)
abbrev cX6_off : ByteArray := prog_15_method_64_code
def yX6_off : MethodName := ⟨RX6, "off", "(II)I"⟩
def dkwX6_off_2 : List UInt8 := [27, 182, 1, 67, 28, 182, 1, 70, 100, 133, 182, 1, 61, 182, 0, 59, 172]
abbrev dktX6_off_2 : List UInt8 := dkwX6_off_2 ++ []
def dkwX6_off_1 : List UInt8 := [182, 0, 55, 172, 42, 182, 1, 86, 42, 42, 42, 180, 0, 21, 42, 27, 28, 182, 1, 77, 46, 42, 27, 42]
abbrev dktX6_off_1 : List UInt8 := dkwX6_off_1 ++ dktX6_off_2
def dkwX6_off_0 : List UInt8 := [42, 3, 181, 0, 49, 42, 42, 27, 182, 1, 92, 28, 182, 1, 98, 62, 29, 158, 0, 9, 42, 29]
abbrev dktX6_off_0 : List UInt8 := dkwX6_off_0 ++ dktX6_off_1
theorem dksX6_off_0 : cX6_off.data.toList.drop 0 = dktX6_off_0 := by decide +kernel
theorem dksX6_off_1 : cX6_off.data.toList.drop 22 = dktX6_off_1 := dk_seg dksX6_off_0 22 rfl rfl
theorem dksX6_off_2 : cX6_off.data.toList.drop 46 = dktX6_off_2 := dk_seg dksX6_off_1 24 rfl rfl
theorem dX6_off_0 : decode cX6_off 0 = .ok (.aload_n 0, 1) := dk_42 (dk_at dksX6_off_0 0 rfl rfl)
theorem dX6_off_1 : decode cX6_off 1 = .ok (.iconst 0, 1) := dk_3 (dk_at dksX6_off_0 1 rfl rfl)
theorem dX6_off_2 : decode cX6_off 2 = .ok (.putfield 49, 3) := dk_181 0 49 (dk_at dksX6_off_0 2 rfl rfl)
theorem dX6_off_5 : decode cX6_off 5 = .ok (.aload_n 0, 1) := dk_42 (dk_at dksX6_off_0 5 rfl rfl)
theorem dX6_off_6 : decode cX6_off 6 = .ok (.aload_n 0, 1) := dk_42 (dk_at dksX6_off_0 6 rfl rfl)
theorem dX6_off_7 : decode cX6_off 7 = .ok (.iload_n 1, 1) := dk_27 (dk_at dksX6_off_0 7 rfl rfl)
theorem dX6_off_8 : decode cX6_off 8 = .ok (.invokevirtual 348, 3) := dk_182 1 92 (dk_at dksX6_off_0 8 rfl rfl)
theorem dX6_off_11 : decode cX6_off 11 = .ok (.iload_n 2, 1) := dk_28 (dk_at dksX6_off_0 11 rfl rfl)
theorem dX6_off_12 : decode cX6_off 12 = .ok (.invokevirtual 354, 3) := dk_182 1 98 (dk_at dksX6_off_0 12 rfl rfl)
theorem dX6_off_15 : decode cX6_off 15 = .ok (.istore_n 3, 1) := dk_62 (dk_at dksX6_off_0 15 rfl rfl)
theorem dX6_off_16 : decode cX6_off 16 = .ok (.iload_n 3, 1) := dk_29 (dk_at dksX6_off_0 16 rfl rfl)
theorem dX6_off_17 : decode cX6_off 17 = .ok (.ifCond .le 9, 3) := dk_158 0 9 (dk_at dksX6_off_0 17 rfl rfl)
theorem dX6_off_20 : decode cX6_off 20 = .ok (.aload_n 0, 1) := dk_42 (dk_at dksX6_off_0 20 rfl rfl)
theorem dX6_off_21 : decode cX6_off 21 = .ok (.iload_n 3, 1) := dk_29 (dk_at dksX6_off_0 21 rfl rfl)
theorem dX6_off_22 : decode cX6_off 22 = .ok (.invokevirtual 55, 3) := dk_182 0 55 (dk_at dksX6_off_1 0 rfl rfl)
theorem dX6_off_25 : decode cX6_off 25 = .ok (.ireturn, 1) := dk_172 (dk_at dksX6_off_1 3 rfl rfl)
theorem dX6_off_26 : decode cX6_off 26 = .ok (.aload_n 0, 1) := dk_42 (dk_at dksX6_off_1 4 rfl rfl)
theorem dX6_off_27 : decode cX6_off 27 = .ok (.invokevirtual 342, 3) := dk_182 1 86 (dk_at dksX6_off_1 5 rfl rfl)
theorem dX6_off_30 : decode cX6_off 30 = .ok (.aload_n 0, 1) := dk_42 (dk_at dksX6_off_1 8 rfl rfl)
theorem dX6_off_31 : decode cX6_off 31 = .ok (.aload_n 0, 1) := dk_42 (dk_at dksX6_off_1 9 rfl rfl)
theorem dX6_off_32 : decode cX6_off 32 = .ok (.aload_n 0, 1) := dk_42 (dk_at dksX6_off_1 10 rfl rfl)
theorem dX6_off_33 : decode cX6_off 33 = .ok (.getfield 21, 3) := dk_180 0 21 (dk_at dksX6_off_1 11 rfl rfl)
theorem dX6_off_36 : decode cX6_off 36 = .ok (.aload_n 0, 1) := dk_42 (dk_at dksX6_off_1 14 rfl rfl)
theorem dX6_off_37 : decode cX6_off 37 = .ok (.iload_n 1, 1) := dk_27 (dk_at dksX6_off_1 15 rfl rfl)
theorem dX6_off_38 : decode cX6_off 38 = .ok (.iload_n 2, 1) := dk_28 (dk_at dksX6_off_1 16 rfl rfl)
theorem dX6_off_39 : decode cX6_off 39 = .ok (.invokevirtual 333, 3) := dk_182 1 77 (dk_at dksX6_off_1 17 rfl rfl)
theorem dX6_off_42 : decode cX6_off 42 = .ok (.iaload, 1) := dk_46 (dk_at dksX6_off_1 20 rfl rfl)
theorem dX6_off_43 : decode cX6_off 43 = .ok (.aload_n 0, 1) := dk_42 (dk_at dksX6_off_1 21 rfl rfl)
theorem dX6_off_44 : decode cX6_off 44 = .ok (.iload_n 1, 1) := dk_27 (dk_at dksX6_off_1 22 rfl rfl)
theorem dX6_off_45 : decode cX6_off 45 = .ok (.aload_n 0, 1) := dk_42 (dk_at dksX6_off_1 23 rfl rfl)
theorem dX6_off_46 : decode cX6_off 46 = .ok (.iload_n 1, 1) := dk_27 (dk_at dksX6_off_2 0 rfl rfl)
theorem dX6_off_47 : decode cX6_off 47 = .ok (.invokevirtual 323, 3) := dk_182 1 67 (dk_at dksX6_off_2 1 rfl rfl)
theorem dX6_off_50 : decode cX6_off 50 = .ok (.iload_n 2, 1) := dk_28 (dk_at dksX6_off_2 4 rfl rfl)
theorem dX6_off_51 : decode cX6_off 51 = .ok (.invokevirtual 326, 3) := dk_182 1 70 (dk_at dksX6_off_2 5 rfl rfl)
theorem dX6_off_54 : decode cX6_off 54 = .ok (.isub, 1) := dk_100 (dk_at dksX6_off_2 8 rfl rfl)
theorem dX6_off_55 : decode cX6_off 55 = .ok (.i2l, 1) := dk_133 (dk_at dksX6_off_2 9 rfl rfl)
theorem dX6_off_56 : decode cX6_off 56 = .ok (.invokevirtual 317, 3) := dk_182 1 61 (dk_at dksX6_off_2 10 rfl rfl)
theorem dX6_off_59 : decode cX6_off 59 = .ok (.invokevirtual 59, 3) := dk_182 0 59 (dk_at dksX6_off_2 13 rfl rfl)
theorem dX6_off_62 : decode cX6_off 62 = .ok (.ireturn, 1) := dk_172 (dk_at dksX6_off_2 16 rfl rfl)
abbrev cX6_right : ByteArray := prog_15_method_65_code
def yX6_right : MethodName := ⟨RX6, "right", "(I)I"⟩
def dkwX6_right_1 : List UInt8 := [158, 0, 9, 42, 28, 182, 0, 55, 172, 42, 182, 1, 86, 42, 42, 27, 182, 1, 102, 182, 0, 59, 172]
abbrev dktX6_right_1 : List UInt8 := dkwX6_right_1 ++ []
def dkwX6_right_0 : List UInt8 := [42, 3, 181, 0, 49, 42, 42, 180, 1, 47, 198, 0, 7, 4, 167, 0, 4, 3, 27, 182, 1, 98, 61, 28]
abbrev dktX6_right_0 : List UInt8 := dkwX6_right_0 ++ dktX6_right_1
theorem dksX6_right_0 : cX6_right.data.toList.drop 0 = dktX6_right_0 := by decide +kernel
theorem dksX6_right_1 : cX6_right.data.toList.drop 24 = dktX6_right_1 := dk_seg dksX6_right_0 24 rfl rfl
theorem dX6_right_0 : decode cX6_right 0 = .ok (.aload_n 0, 1) := dk_42 (dk_at dksX6_right_0 0 rfl rfl)
theorem dX6_right_1 : decode cX6_right 1 = .ok (.iconst 0, 1) := dk_3 (dk_at dksX6_right_0 1 rfl rfl)
theorem dX6_right_2 : decode cX6_right 2 = .ok (.putfield 49, 3) := dk_181 0 49 (dk_at dksX6_right_0 2 rfl rfl)
theorem dX6_right_5 : decode cX6_right 5 = .ok (.aload_n 0, 1) := dk_42 (dk_at dksX6_right_0 5 rfl rfl)
theorem dX6_right_6 : decode cX6_right 6 = .ok (.aload_n 0, 1) := dk_42 (dk_at dksX6_right_0 6 rfl rfl)
theorem dX6_right_7 : decode cX6_right 7 = .ok (.getfield 303, 3) := dk_180 1 47 (dk_at dksX6_right_0 7 rfl rfl)
theorem dX6_right_10 : decode cX6_right 10 = .ok (.ifnull 7, 3) := dk_198 0 7 (dk_at dksX6_right_0 10 rfl rfl)
theorem dX6_right_13 : decode cX6_right 13 = .ok (.iconst 1, 1) := dk_4 (dk_at dksX6_right_0 13 rfl rfl)
theorem dX6_right_14 : decode cX6_right 14 = .ok (.goto 4, 3) := dk_167 0 4 (dk_at dksX6_right_0 14 rfl rfl)
theorem dX6_right_17 : decode cX6_right 17 = .ok (.iconst 0, 1) := dk_3 (dk_at dksX6_right_0 17 rfl rfl)
theorem dX6_right_18 : decode cX6_right 18 = .ok (.iload_n 1, 1) := dk_27 (dk_at dksX6_right_0 18 rfl rfl)
theorem dX6_right_19 : decode cX6_right 19 = .ok (.invokevirtual 354, 3) := dk_182 1 98 (dk_at dksX6_right_0 19 rfl rfl)
theorem dX6_right_22 : decode cX6_right 22 = .ok (.istore_n 2, 1) := dk_61 (dk_at dksX6_right_0 22 rfl rfl)
theorem dX6_right_23 : decode cX6_right 23 = .ok (.iload_n 2, 1) := dk_28 (dk_at dksX6_right_0 23 rfl rfl)
theorem dX6_right_24 : decode cX6_right 24 = .ok (.ifCond .le 9, 3) := dk_158 0 9 (dk_at dksX6_right_1 0 rfl rfl)
theorem dX6_right_27 : decode cX6_right 27 = .ok (.aload_n 0, 1) := dk_42 (dk_at dksX6_right_1 3 rfl rfl)
theorem dX6_right_28 : decode cX6_right 28 = .ok (.iload_n 2, 1) := dk_28 (dk_at dksX6_right_1 4 rfl rfl)
theorem dX6_right_29 : decode cX6_right 29 = .ok (.invokevirtual 55, 3) := dk_182 0 55 (dk_at dksX6_right_1 5 rfl rfl)
theorem dX6_right_32 : decode cX6_right 32 = .ok (.ireturn, 1) := dk_172 (dk_at dksX6_right_1 8 rfl rfl)
theorem dX6_right_33 : decode cX6_right 33 = .ok (.aload_n 0, 1) := dk_42 (dk_at dksX6_right_1 9 rfl rfl)
theorem dX6_right_34 : decode cX6_right 34 = .ok (.invokevirtual 342, 3) := dk_182 1 86 (dk_at dksX6_right_1 10 rfl rfl)
theorem dX6_right_37 : decode cX6_right 37 = .ok (.aload_n 0, 1) := dk_42 (dk_at dksX6_right_1 13 rfl rfl)
theorem dX6_right_38 : decode cX6_right 38 = .ok (.aload_n 0, 1) := dk_42 (dk_at dksX6_right_1 14 rfl rfl)
theorem dX6_right_39 : decode cX6_right 39 = .ok (.iload_n 1, 1) := dk_27 (dk_at dksX6_right_1 15 rfl rfl)
theorem dX6_right_40 : decode cX6_right 40 = .ok (.invokevirtual 358, 3) := dk_182 1 102 (dk_at dksX6_right_1 16 rfl rfl)
theorem dX6_right_43 : decode cX6_right 43 = .ok (.invokevirtual 59, 3) := dk_182 0 59 (dk_at dksX6_right_1 19 rfl rfl)
theorem dX6_right_46 : decode cX6_right 46 = .ok (.ireturn, 1) := dk_172 (dk_at dksX6_right_1 22 rfl rfl)
abbrev cX6_rightOn : ByteArray := prog_15_method_55_code
def yX6_rightOn : MethodName := ⟨RX6, "rightOn", "(I)I"⟩
def dkwX6_rightOn_1 : List UInt8 := [153, 0, 9, 4, 29, 120, 167, 0, 4, 3, 128, 61, 132, 3, 1, 167, 255, 223, 28, 172]
abbrev dktX6_rightOn_1 : List UInt8 := dkwX6_rightOn_1 ++ []
def dkwX6_rightOn_0 : List UInt8 := [3, 61, 3, 62, 29, 42, 180, 1, 47, 180, 0, 241, 162, 0, 28, 28, 42, 29, 27, 182, 1, 80]
abbrev dktX6_rightOn_0 : List UInt8 := dkwX6_rightOn_0 ++ dktX6_rightOn_1
theorem dksX6_rightOn_0 : cX6_rightOn.data.toList.drop 0 = dktX6_rightOn_0 := by decide +kernel
theorem dksX6_rightOn_1 : cX6_rightOn.data.toList.drop 22 = dktX6_rightOn_1 := dk_seg dksX6_rightOn_0 22 rfl rfl
theorem dX6_rightOn_0 : decode cX6_rightOn 0 = .ok (.iconst 0, 1) := dk_3 (dk_at dksX6_rightOn_0 0 rfl rfl)
theorem dX6_rightOn_1 : decode cX6_rightOn 1 = .ok (.istore_n 2, 1) := dk_61 (dk_at dksX6_rightOn_0 1 rfl rfl)
theorem dX6_rightOn_2 : decode cX6_rightOn 2 = .ok (.iconst 0, 1) := dk_3 (dk_at dksX6_rightOn_0 2 rfl rfl)
theorem dX6_rightOn_3 : decode cX6_rightOn 3 = .ok (.istore_n 3, 1) := dk_62 (dk_at dksX6_rightOn_0 3 rfl rfl)
theorem dX6_rightOn_4 : decode cX6_rightOn 4 = .ok (.iload_n 3, 1) := dk_29 (dk_at dksX6_rightOn_0 4 rfl rfl)
theorem dX6_rightOn_5 : decode cX6_rightOn 5 = .ok (.aload_n 0, 1) := dk_42 (dk_at dksX6_rightOn_0 5 rfl rfl)
theorem dX6_rightOn_6 : decode cX6_rightOn 6 = .ok (.getfield 303, 3) := dk_180 1 47 (dk_at dksX6_rightOn_0 6 rfl rfl)
theorem dX6_rightOn_9 : decode cX6_rightOn 9 = .ok (.getfield 241, 3) := dk_180 0 241 (dk_at dksX6_rightOn_0 9 rfl rfl)
theorem dX6_rightOn_12 : decode cX6_rightOn 12 = .ok (.if_icmp .ge 28, 3) := dk_162 0 28 (dk_at dksX6_rightOn_0 12 rfl rfl)
theorem dX6_rightOn_15 : decode cX6_rightOn 15 = .ok (.iload_n 2, 1) := dk_28 (dk_at dksX6_rightOn_0 15 rfl rfl)
theorem dX6_rightOn_16 : decode cX6_rightOn 16 = .ok (.aload_n 0, 1) := dk_42 (dk_at dksX6_rightOn_0 16 rfl rfl)
theorem dX6_rightOn_17 : decode cX6_rightOn 17 = .ok (.iload_n 3, 1) := dk_29 (dk_at dksX6_rightOn_0 17 rfl rfl)
theorem dX6_rightOn_18 : decode cX6_rightOn 18 = .ok (.iload_n 1, 1) := dk_27 (dk_at dksX6_rightOn_0 18 rfl rfl)
theorem dX6_rightOn_19 : decode cX6_rightOn 19 = .ok (.invokevirtual 336, 3) := dk_182 1 80 (dk_at dksX6_rightOn_0 19 rfl rfl)
theorem dX6_rightOn_22 : decode cX6_rightOn 22 = .ok (.ifCond .eq 9, 3) := dk_153 0 9 (dk_at dksX6_rightOn_1 0 rfl rfl)
theorem dX6_rightOn_25 : decode cX6_rightOn 25 = .ok (.iconst 1, 1) := dk_4 (dk_at dksX6_rightOn_1 3 rfl rfl)
theorem dX6_rightOn_26 : decode cX6_rightOn 26 = .ok (.iload_n 3, 1) := dk_29 (dk_at dksX6_rightOn_1 4 rfl rfl)
theorem dX6_rightOn_27 : decode cX6_rightOn 27 = .ok (.ishl, 1) := dk_120 (dk_at dksX6_rightOn_1 5 rfl rfl)
theorem dX6_rightOn_28 : decode cX6_rightOn 28 = .ok (.goto 4, 3) := dk_167 0 4 (dk_at dksX6_rightOn_1 6 rfl rfl)
theorem dX6_rightOn_31 : decode cX6_rightOn 31 = .ok (.iconst 0, 1) := dk_3 (dk_at dksX6_rightOn_1 9 rfl rfl)
theorem dX6_rightOn_32 : decode cX6_rightOn 32 = .ok (.ior, 1) := dk_128 (dk_at dksX6_rightOn_1 10 rfl rfl)
theorem dX6_rightOn_33 : decode cX6_rightOn 33 = .ok (.istore_n 2, 1) := dk_61 (dk_at dksX6_rightOn_1 11 rfl rfl)
theorem dX6_rightOn_34 : decode cX6_rightOn 34 = .ok (.iinc 3 1, 3) := dk_132 3 1 (dk_at dksX6_rightOn_1 12 rfl rfl)
theorem dX6_rightOn_37 : decode cX6_rightOn 37 = .ok (.goto (-33), 3) := dk_167 255 223 (dk_at dksX6_rightOn_1 15 rfl rfl)
theorem dX6_rightOn_40 : decode cX6_rightOn 40 = .ok (.iload_n 2, 1) := dk_28 (dk_at dksX6_rightOn_1 18 rfl rfl)
theorem dX6_rightOn_41 : decode cX6_rightOn 41 = .ok (.ireturn, 1) := dk_172 (dk_at dksX6_rightOn_1 19 rfl rfl)
abbrev cX6_isRight : ByteArray := prog_15_method_54_code
def yX6_isRight : MethodName := ⟨RX6, "isRight", "(II)Z"⟩
def dkwX6_isRight_0 : List UInt8 := [42, 27, 28, 182, 1, 77, 42, 180, 1, 47, 180, 1, 7, 27, 46, 160, 0, 7, 4, 167, 0, 4, 3, 172]
abbrev dktX6_isRight_0 : List UInt8 := dkwX6_isRight_0 ++ []
theorem dksX6_isRight_0 : cX6_isRight.data.toList.drop 0 = dktX6_isRight_0 := by decide +kernel
theorem dX6_isRight_0 : decode cX6_isRight 0 = .ok (.aload_n 0, 1) := dk_42 (dk_at dksX6_isRight_0 0 rfl rfl)
theorem dX6_isRight_1 : decode cX6_isRight 1 = .ok (.iload_n 1, 1) := dk_27 (dk_at dksX6_isRight_0 1 rfl rfl)
theorem dX6_isRight_2 : decode cX6_isRight 2 = .ok (.iload_n 2, 1) := dk_28 (dk_at dksX6_isRight_0 2 rfl rfl)
theorem dX6_isRight_3 : decode cX6_isRight 3 = .ok (.invokevirtual 333, 3) := dk_182 1 77 (dk_at dksX6_isRight_0 3 rfl rfl)
theorem dX6_isRight_6 : decode cX6_isRight 6 = .ok (.aload_n 0, 1) := dk_42 (dk_at dksX6_isRight_0 6 rfl rfl)
theorem dX6_isRight_7 : decode cX6_isRight 7 = .ok (.getfield 303, 3) := dk_180 1 47 (dk_at dksX6_isRight_0 7 rfl rfl)
theorem dX6_isRight_10 : decode cX6_isRight 10 = .ok (.getfield 263, 3) := dk_180 1 7 (dk_at dksX6_isRight_0 10 rfl rfl)
theorem dX6_isRight_13 : decode cX6_isRight 13 = .ok (.iload_n 1, 1) := dk_27 (dk_at dksX6_isRight_0 13 rfl rfl)
theorem dX6_isRight_14 : decode cX6_isRight 14 = .ok (.iaload, 1) := dk_46 (dk_at dksX6_isRight_0 14 rfl rfl)
theorem dX6_isRight_15 : decode cX6_isRight 15 = .ok (.if_icmp .ne 7, 3) := dk_160 0 7 (dk_at dksX6_isRight_0 15 rfl rfl)
theorem dX6_isRight_18 : decode cX6_isRight 18 = .ok (.iconst 1, 1) := dk_4 (dk_at dksX6_isRight_0 18 rfl rfl)
theorem dX6_isRight_19 : decode cX6_isRight 19 = .ok (.goto 4, 3) := dk_167 0 4 (dk_at dksX6_isRight_0 19 rfl rfl)
theorem dX6_isRight_22 : decode cX6_isRight 22 = .ok (.iconst 0, 1) := dk_3 (dk_at dksX6_isRight_0 22 rfl rfl)
theorem dX6_isRight_23 : decode cX6_isRight 23 = .ok (.ireturn, 1) := dk_172 (dk_at dksX6_isRight_0 23 rfl rfl)
abbrev cX6_medium : ByteArray := prog_15_method_66_code
def yX6_medium : MethodName := ⟨RX6, "medium", "(I)I"⟩
def dkwX6_medium_3 : List UInt8 := [184, 1, 105, 164, 0, 6, 21, 4, 62, 132, 4, 1, 167, 255, 216, 42, 29, 182, 0, 59, 172]
abbrev dktX6_medium_3 : List UInt8 := dkwX6_medium_3 ++ []
def dkwX6_medium_2 : List UInt8 := [180, 0, 193, 162, 0, 34, 42, 21, 4, 27, 182, 1, 89, 184, 1, 105, 42, 29, 27, 182, 1, 89]
abbrev dktX6_medium_2 : List UInt8 := dkwX6_medium_2 ++ dktX6_medium_3
def dkwX6_medium_1 : List UInt8 := [158, 0, 9, 42, 28, 182, 0, 55, 172, 42, 182, 1, 86, 3, 62, 4, 54, 4, 21, 4, 42, 180, 1, 47]
abbrev dktX6_medium_1 : List UInt8 := dkwX6_medium_1 ++ dktX6_medium_2
def dkwX6_medium_0 : List UInt8 := [42, 3, 181, 0, 49, 42, 42, 180, 1, 47, 198, 0, 7, 4, 167, 0, 4, 3, 27, 182, 1, 98, 61, 28]
abbrev dktX6_medium_0 : List UInt8 := dkwX6_medium_0 ++ dktX6_medium_1
theorem dksX6_medium_0 : cX6_medium.data.toList.drop 0 = dktX6_medium_0 := by decide +kernel
theorem dksX6_medium_1 : cX6_medium.data.toList.drop 24 = dktX6_medium_1 := dk_seg dksX6_medium_0 24 rfl rfl
theorem dksX6_medium_2 : cX6_medium.data.toList.drop 48 = dktX6_medium_2 := dk_seg dksX6_medium_1 24 rfl rfl
theorem dksX6_medium_3 : cX6_medium.data.toList.drop 70 = dktX6_medium_3 := dk_seg dksX6_medium_2 22 rfl rfl
theorem dX6_medium_0 : decode cX6_medium 0 = .ok (.aload_n 0, 1) := dk_42 (dk_at dksX6_medium_0 0 rfl rfl)
theorem dX6_medium_1 : decode cX6_medium 1 = .ok (.iconst 0, 1) := dk_3 (dk_at dksX6_medium_0 1 rfl rfl)
theorem dX6_medium_2 : decode cX6_medium 2 = .ok (.putfield 49, 3) := dk_181 0 49 (dk_at dksX6_medium_0 2 rfl rfl)
theorem dX6_medium_5 : decode cX6_medium 5 = .ok (.aload_n 0, 1) := dk_42 (dk_at dksX6_medium_0 5 rfl rfl)
theorem dX6_medium_6 : decode cX6_medium 6 = .ok (.aload_n 0, 1) := dk_42 (dk_at dksX6_medium_0 6 rfl rfl)
theorem dX6_medium_7 : decode cX6_medium 7 = .ok (.getfield 303, 3) := dk_180 1 47 (dk_at dksX6_medium_0 7 rfl rfl)
theorem dX6_medium_10 : decode cX6_medium 10 = .ok (.ifnull 7, 3) := dk_198 0 7 (dk_at dksX6_medium_0 10 rfl rfl)
theorem dX6_medium_13 : decode cX6_medium 13 = .ok (.iconst 1, 1) := dk_4 (dk_at dksX6_medium_0 13 rfl rfl)
theorem dX6_medium_14 : decode cX6_medium 14 = .ok (.goto 4, 3) := dk_167 0 4 (dk_at dksX6_medium_0 14 rfl rfl)
theorem dX6_medium_17 : decode cX6_medium 17 = .ok (.iconst 0, 1) := dk_3 (dk_at dksX6_medium_0 17 rfl rfl)
theorem dX6_medium_18 : decode cX6_medium 18 = .ok (.iload_n 1, 1) := dk_27 (dk_at dksX6_medium_0 18 rfl rfl)
theorem dX6_medium_19 : decode cX6_medium 19 = .ok (.invokevirtual 354, 3) := dk_182 1 98 (dk_at dksX6_medium_0 19 rfl rfl)
theorem dX6_medium_22 : decode cX6_medium 22 = .ok (.istore_n 2, 1) := dk_61 (dk_at dksX6_medium_0 22 rfl rfl)
theorem dX6_medium_23 : decode cX6_medium 23 = .ok (.iload_n 2, 1) := dk_28 (dk_at dksX6_medium_0 23 rfl rfl)
theorem dX6_medium_24 : decode cX6_medium 24 = .ok (.ifCond .le 9, 3) := dk_158 0 9 (dk_at dksX6_medium_1 0 rfl rfl)
theorem dX6_medium_27 : decode cX6_medium 27 = .ok (.aload_n 0, 1) := dk_42 (dk_at dksX6_medium_1 3 rfl rfl)
theorem dX6_medium_28 : decode cX6_medium 28 = .ok (.iload_n 2, 1) := dk_28 (dk_at dksX6_medium_1 4 rfl rfl)
theorem dX6_medium_29 : decode cX6_medium 29 = .ok (.invokevirtual 55, 3) := dk_182 0 55 (dk_at dksX6_medium_1 5 rfl rfl)
theorem dX6_medium_32 : decode cX6_medium 32 = .ok (.ireturn, 1) := dk_172 (dk_at dksX6_medium_1 8 rfl rfl)
theorem dX6_medium_33 : decode cX6_medium 33 = .ok (.aload_n 0, 1) := dk_42 (dk_at dksX6_medium_1 9 rfl rfl)
theorem dX6_medium_34 : decode cX6_medium 34 = .ok (.invokevirtual 342, 3) := dk_182 1 86 (dk_at dksX6_medium_1 10 rfl rfl)
theorem dX6_medium_37 : decode cX6_medium 37 = .ok (.iconst 0, 1) := dk_3 (dk_at dksX6_medium_1 13 rfl rfl)
theorem dX6_medium_38 : decode cX6_medium 38 = .ok (.istore_n 3, 1) := dk_62 (dk_at dksX6_medium_1 14 rfl rfl)
theorem dX6_medium_39 : decode cX6_medium 39 = .ok (.iconst 1, 1) := dk_4 (dk_at dksX6_medium_1 15 rfl rfl)
theorem dX6_medium_40 : decode cX6_medium 40 = .ok (.istore 4, 2) := dk_54 4 (dk_at dksX6_medium_1 16 rfl rfl)
theorem dX6_medium_42 : decode cX6_medium 42 = .ok (.iload 4, 2) := dk_21 4 (dk_at dksX6_medium_1 18 rfl rfl)
theorem dX6_medium_44 : decode cX6_medium 44 = .ok (.aload_n 0, 1) := dk_42 (dk_at dksX6_medium_1 20 rfl rfl)
theorem dX6_medium_45 : decode cX6_medium 45 = .ok (.getfield 303, 3) := dk_180 1 47 (dk_at dksX6_medium_1 21 rfl rfl)
theorem dX6_medium_48 : decode cX6_medium 48 = .ok (.getfield 193, 3) := dk_180 0 193 (dk_at dksX6_medium_2 0 rfl rfl)
theorem dX6_medium_51 : decode cX6_medium 51 = .ok (.if_icmp .ge 34, 3) := dk_162 0 34 (dk_at dksX6_medium_2 3 rfl rfl)
theorem dX6_medium_54 : decode cX6_medium 54 = .ok (.aload_n 0, 1) := dk_42 (dk_at dksX6_medium_2 6 rfl rfl)
theorem dX6_medium_55 : decode cX6_medium 55 = .ok (.iload 4, 2) := dk_21 4 (dk_at dksX6_medium_2 7 rfl rfl)
theorem dX6_medium_57 : decode cX6_medium 57 = .ok (.iload_n 1, 1) := dk_27 (dk_at dksX6_medium_2 9 rfl rfl)
theorem dX6_medium_58 : decode cX6_medium 58 = .ok (.invokevirtual 345, 3) := dk_182 1 89 (dk_at dksX6_medium_2 10 rfl rfl)
theorem dX6_medium_61 : decode cX6_medium 61 = .ok (.invokestatic 361, 3) := dk_184 1 105 (dk_at dksX6_medium_2 13 rfl rfl)
theorem dX6_medium_64 : decode cX6_medium 64 = .ok (.aload_n 0, 1) := dk_42 (dk_at dksX6_medium_2 16 rfl rfl)
theorem dX6_medium_65 : decode cX6_medium 65 = .ok (.iload_n 3, 1) := dk_29 (dk_at dksX6_medium_2 17 rfl rfl)
theorem dX6_medium_66 : decode cX6_medium 66 = .ok (.iload_n 1, 1) := dk_27 (dk_at dksX6_medium_2 18 rfl rfl)
theorem dX6_medium_67 : decode cX6_medium 67 = .ok (.invokevirtual 345, 3) := dk_182 1 89 (dk_at dksX6_medium_2 19 rfl rfl)
theorem dX6_medium_70 : decode cX6_medium 70 = .ok (.invokestatic 361, 3) := dk_184 1 105 (dk_at dksX6_medium_3 0 rfl rfl)
theorem dX6_medium_73 : decode cX6_medium 73 = .ok (.if_icmp .le 6, 3) := dk_164 0 6 (dk_at dksX6_medium_3 3 rfl rfl)
theorem dX6_medium_76 : decode cX6_medium 76 = .ok (.iload 4, 2) := dk_21 4 (dk_at dksX6_medium_3 6 rfl rfl)
theorem dX6_medium_78 : decode cX6_medium 78 = .ok (.istore_n 3, 1) := dk_62 (dk_at dksX6_medium_3 8 rfl rfl)
theorem dX6_medium_79 : decode cX6_medium 79 = .ok (.iinc 4 1, 3) := dk_132 4 1 (dk_at dksX6_medium_3 9 rfl rfl)
theorem dX6_medium_82 : decode cX6_medium 82 = .ok (.goto (-40), 3) := dk_167 255 216 (dk_at dksX6_medium_3 12 rfl rfl)
theorem dX6_medium_85 : decode cX6_medium 85 = .ok (.aload_n 0, 1) := dk_42 (dk_at dksX6_medium_3 15 rfl rfl)
theorem dX6_medium_86 : decode cX6_medium 86 = .ok (.iload_n 3, 1) := dk_29 (dk_at dksX6_medium_3 16 rfl rfl)
theorem dX6_medium_87 : decode cX6_medium 87 = .ok (.invokevirtual 59, 3) := dk_182 0 59 (dk_at dksX6_medium_3 17 rfl rfl)
theorem dX6_medium_90 : decode cX6_medium 90 = .ok (.ireturn, 1) := dk_172 (dk_at dksX6_medium_3 20 rfl rfl)
abbrev cX6_bits : ByteArray := prog_15_method_10_code
def yX6_bits : MethodName := ⟨RX6, "bits", "(I)I"⟩
def dkwX6_bits_0 : List UInt8 := [3, 60, 26, 61, 28, 153, 0, 15, 132, 1, 1, 28, 28, 4, 100, 126, 61, 167, 255, 243, 27, 172]
abbrev dktX6_bits_0 : List UInt8 := dkwX6_bits_0 ++ []
theorem dksX6_bits_0 : cX6_bits.data.toList.drop 0 = dktX6_bits_0 := by decide +kernel
theorem dX6_bits_0 : decode cX6_bits 0 = .ok (.iconst 0, 1) := dk_3 (dk_at dksX6_bits_0 0 rfl rfl)
theorem dX6_bits_1 : decode cX6_bits 1 = .ok (.istore_n 1, 1) := dk_60 (dk_at dksX6_bits_0 1 rfl rfl)
theorem dX6_bits_2 : decode cX6_bits 2 = .ok (.iload_n 0, 1) := dk_26 (dk_at dksX6_bits_0 2 rfl rfl)
theorem dX6_bits_3 : decode cX6_bits 3 = .ok (.istore_n 2, 1) := dk_61 (dk_at dksX6_bits_0 3 rfl rfl)
theorem dX6_bits_4 : decode cX6_bits 4 = .ok (.iload_n 2, 1) := dk_28 (dk_at dksX6_bits_0 4 rfl rfl)
theorem dX6_bits_5 : decode cX6_bits 5 = .ok (.ifCond .eq 15, 3) := dk_153 0 15 (dk_at dksX6_bits_0 5 rfl rfl)
theorem dX6_bits_8 : decode cX6_bits 8 = .ok (.iinc 1 1, 3) := dk_132 1 1 (dk_at dksX6_bits_0 8 rfl rfl)
theorem dX6_bits_11 : decode cX6_bits 11 = .ok (.iload_n 2, 1) := dk_28 (dk_at dksX6_bits_0 11 rfl rfl)
theorem dX6_bits_12 : decode cX6_bits 12 = .ok (.iload_n 2, 1) := dk_28 (dk_at dksX6_bits_0 12 rfl rfl)
theorem dX6_bits_13 : decode cX6_bits 13 = .ok (.iconst 1, 1) := dk_4 (dk_at dksX6_bits_0 13 rfl rfl)
theorem dX6_bits_14 : decode cX6_bits 14 = .ok (.isub, 1) := dk_100 (dk_at dksX6_bits_0 14 rfl rfl)
theorem dX6_bits_15 : decode cX6_bits 15 = .ok (.iand, 1) := dk_126 (dk_at dksX6_bits_0 15 rfl rfl)
theorem dX6_bits_16 : decode cX6_bits 16 = .ok (.istore_n 2, 1) := dk_61 (dk_at dksX6_bits_0 16 rfl rfl)
theorem dX6_bits_17 : decode cX6_bits 17 = .ok (.goto (-13), 3) := dk_167 255 243 (dk_at dksX6_bits_0 17 rfl rfl)
theorem dX6_bits_20 : decode cX6_bits 20 = .ok (.iload_n 1, 1) := dk_27 (dk_at dksX6_bits_0 20 rfl rfl)
theorem dX6_bits_21 : decode cX6_bits 21 = .ok (.ireturn, 1) := dk_172 (dk_at dksX6_bits_0 21 rfl rfl)
abbrev cX6_silent : ByteArray := prog_15_method_67_code
def yX6_silent : MethodName := ⟨RX6, "silent", "(I)I"⟩
def dkwX6_silent_3 : List UInt8 := [3, 128, 62, 132, 4, 1, 167, 255, 220, 42, 29, 182, 0, 59, 172]
abbrev dktX6_silent_3 : List UInt8 := dkwX6_silent_3 ++ []
def dkwX6_silent_2 : List UInt8 := [180, 0, 193, 162, 0, 30, 29, 42, 21, 4, 27, 182, 1, 89, 154, 0, 10, 4, 21, 4, 120, 167, 0, 4]
abbrev dktX6_silent_2 : List UInt8 := dkwX6_silent_2 ++ dktX6_silent_3
def dkwX6_silent_1 : List UInt8 := [158, 0, 9, 42, 28, 182, 0, 55, 172, 42, 182, 1, 86, 3, 62, 3, 54, 4, 21, 4, 42, 180, 1, 47]
abbrev dktX6_silent_1 : List UInt8 := dkwX6_silent_1 ++ dktX6_silent_2
def dkwX6_silent_0 : List UInt8 := [42, 3, 181, 0, 49, 42, 42, 180, 1, 47, 198, 0, 7, 4, 167, 0, 4, 3, 27, 182, 1, 98, 61, 28]
abbrev dktX6_silent_0 : List UInt8 := dkwX6_silent_0 ++ dktX6_silent_1
theorem dksX6_silent_0 : cX6_silent.data.toList.drop 0 = dktX6_silent_0 := by decide +kernel
theorem dksX6_silent_1 : cX6_silent.data.toList.drop 24 = dktX6_silent_1 := dk_seg dksX6_silent_0 24 rfl rfl
theorem dksX6_silent_2 : cX6_silent.data.toList.drop 48 = dktX6_silent_2 := dk_seg dksX6_silent_1 24 rfl rfl
theorem dksX6_silent_3 : cX6_silent.data.toList.drop 72 = dktX6_silent_3 := dk_seg dksX6_silent_2 24 rfl rfl
theorem dX6_silent_0 : decode cX6_silent 0 = .ok (.aload_n 0, 1) := dk_42 (dk_at dksX6_silent_0 0 rfl rfl)
theorem dX6_silent_1 : decode cX6_silent 1 = .ok (.iconst 0, 1) := dk_3 (dk_at dksX6_silent_0 1 rfl rfl)
theorem dX6_silent_2 : decode cX6_silent 2 = .ok (.putfield 49, 3) := dk_181 0 49 (dk_at dksX6_silent_0 2 rfl rfl)
theorem dX6_silent_5 : decode cX6_silent 5 = .ok (.aload_n 0, 1) := dk_42 (dk_at dksX6_silent_0 5 rfl rfl)
theorem dX6_silent_6 : decode cX6_silent 6 = .ok (.aload_n 0, 1) := dk_42 (dk_at dksX6_silent_0 6 rfl rfl)
theorem dX6_silent_7 : decode cX6_silent 7 = .ok (.getfield 303, 3) := dk_180 1 47 (dk_at dksX6_silent_0 7 rfl rfl)
theorem dX6_silent_10 : decode cX6_silent 10 = .ok (.ifnull 7, 3) := dk_198 0 7 (dk_at dksX6_silent_0 10 rfl rfl)
theorem dX6_silent_13 : decode cX6_silent 13 = .ok (.iconst 1, 1) := dk_4 (dk_at dksX6_silent_0 13 rfl rfl)
theorem dX6_silent_14 : decode cX6_silent 14 = .ok (.goto 4, 3) := dk_167 0 4 (dk_at dksX6_silent_0 14 rfl rfl)
theorem dX6_silent_17 : decode cX6_silent 17 = .ok (.iconst 0, 1) := dk_3 (dk_at dksX6_silent_0 17 rfl rfl)
theorem dX6_silent_18 : decode cX6_silent 18 = .ok (.iload_n 1, 1) := dk_27 (dk_at dksX6_silent_0 18 rfl rfl)
theorem dX6_silent_19 : decode cX6_silent 19 = .ok (.invokevirtual 354, 3) := dk_182 1 98 (dk_at dksX6_silent_0 19 rfl rfl)
theorem dX6_silent_22 : decode cX6_silent 22 = .ok (.istore_n 2, 1) := dk_61 (dk_at dksX6_silent_0 22 rfl rfl)
theorem dX6_silent_23 : decode cX6_silent 23 = .ok (.iload_n 2, 1) := dk_28 (dk_at dksX6_silent_0 23 rfl rfl)
theorem dX6_silent_24 : decode cX6_silent 24 = .ok (.ifCond .le 9, 3) := dk_158 0 9 (dk_at dksX6_silent_1 0 rfl rfl)
theorem dX6_silent_27 : decode cX6_silent 27 = .ok (.aload_n 0, 1) := dk_42 (dk_at dksX6_silent_1 3 rfl rfl)
theorem dX6_silent_28 : decode cX6_silent 28 = .ok (.iload_n 2, 1) := dk_28 (dk_at dksX6_silent_1 4 rfl rfl)
theorem dX6_silent_29 : decode cX6_silent 29 = .ok (.invokevirtual 55, 3) := dk_182 0 55 (dk_at dksX6_silent_1 5 rfl rfl)
theorem dX6_silent_32 : decode cX6_silent 32 = .ok (.ireturn, 1) := dk_172 (dk_at dksX6_silent_1 8 rfl rfl)
theorem dX6_silent_33 : decode cX6_silent 33 = .ok (.aload_n 0, 1) := dk_42 (dk_at dksX6_silent_1 9 rfl rfl)
theorem dX6_silent_34 : decode cX6_silent 34 = .ok (.invokevirtual 342, 3) := dk_182 1 86 (dk_at dksX6_silent_1 10 rfl rfl)
theorem dX6_silent_37 : decode cX6_silent 37 = .ok (.iconst 0, 1) := dk_3 (dk_at dksX6_silent_1 13 rfl rfl)
theorem dX6_silent_38 : decode cX6_silent 38 = .ok (.istore_n 3, 1) := dk_62 (dk_at dksX6_silent_1 14 rfl rfl)
theorem dX6_silent_39 : decode cX6_silent 39 = .ok (.iconst 0, 1) := dk_3 (dk_at dksX6_silent_1 15 rfl rfl)
theorem dX6_silent_40 : decode cX6_silent 40 = .ok (.istore 4, 2) := dk_54 4 (dk_at dksX6_silent_1 16 rfl rfl)
theorem dX6_silent_42 : decode cX6_silent 42 = .ok (.iload 4, 2) := dk_21 4 (dk_at dksX6_silent_1 18 rfl rfl)
theorem dX6_silent_44 : decode cX6_silent 44 = .ok (.aload_n 0, 1) := dk_42 (dk_at dksX6_silent_1 20 rfl rfl)
theorem dX6_silent_45 : decode cX6_silent 45 = .ok (.getfield 303, 3) := dk_180 1 47 (dk_at dksX6_silent_1 21 rfl rfl)
theorem dX6_silent_48 : decode cX6_silent 48 = .ok (.getfield 193, 3) := dk_180 0 193 (dk_at dksX6_silent_2 0 rfl rfl)
theorem dX6_silent_51 : decode cX6_silent 51 = .ok (.if_icmp .ge 30, 3) := dk_162 0 30 (dk_at dksX6_silent_2 3 rfl rfl)
theorem dX6_silent_54 : decode cX6_silent 54 = .ok (.iload_n 3, 1) := dk_29 (dk_at dksX6_silent_2 6 rfl rfl)
theorem dX6_silent_55 : decode cX6_silent 55 = .ok (.aload_n 0, 1) := dk_42 (dk_at dksX6_silent_2 7 rfl rfl)
theorem dX6_silent_56 : decode cX6_silent 56 = .ok (.iload 4, 2) := dk_21 4 (dk_at dksX6_silent_2 8 rfl rfl)
theorem dX6_silent_58 : decode cX6_silent 58 = .ok (.iload_n 1, 1) := dk_27 (dk_at dksX6_silent_2 10 rfl rfl)
theorem dX6_silent_59 : decode cX6_silent 59 = .ok (.invokevirtual 345, 3) := dk_182 1 89 (dk_at dksX6_silent_2 11 rfl rfl)
theorem dX6_silent_62 : decode cX6_silent 62 = .ok (.ifCond .ne 10, 3) := dk_154 0 10 (dk_at dksX6_silent_2 14 rfl rfl)
theorem dX6_silent_65 : decode cX6_silent 65 = .ok (.iconst 1, 1) := dk_4 (dk_at dksX6_silent_2 17 rfl rfl)
theorem dX6_silent_66 : decode cX6_silent 66 = .ok (.iload 4, 2) := dk_21 4 (dk_at dksX6_silent_2 18 rfl rfl)
theorem dX6_silent_68 : decode cX6_silent 68 = .ok (.ishl, 1) := dk_120 (dk_at dksX6_silent_2 20 rfl rfl)
theorem dX6_silent_69 : decode cX6_silent 69 = .ok (.goto 4, 3) := dk_167 0 4 (dk_at dksX6_silent_2 21 rfl rfl)
theorem dX6_silent_72 : decode cX6_silent 72 = .ok (.iconst 0, 1) := dk_3 (dk_at dksX6_silent_3 0 rfl rfl)
theorem dX6_silent_73 : decode cX6_silent 73 = .ok (.ior, 1) := dk_128 (dk_at dksX6_silent_3 1 rfl rfl)
theorem dX6_silent_74 : decode cX6_silent 74 = .ok (.istore_n 3, 1) := dk_62 (dk_at dksX6_silent_3 2 rfl rfl)
theorem dX6_silent_75 : decode cX6_silent 75 = .ok (.iinc 4 1, 3) := dk_132 4 1 (dk_at dksX6_silent_3 3 rfl rfl)
theorem dX6_silent_78 : decode cX6_silent 78 = .ok (.goto (-36), 3) := dk_167 255 220 (dk_at dksX6_silent_3 6 rfl rfl)
theorem dX6_silent_81 : decode cX6_silent 81 = .ok (.aload_n 0, 1) := dk_42 (dk_at dksX6_silent_3 9 rfl rfl)
theorem dX6_silent_82 : decode cX6_silent 82 = .ok (.iload_n 3, 1) := dk_29 (dk_at dksX6_silent_3 10 rfl rfl)
theorem dX6_silent_83 : decode cX6_silent 83 = .ok (.invokevirtual 59, 3) := dk_182 0 59 (dk_at dksX6_silent_3 11 rfl rfl)
theorem dX6_silent_86 : decode cX6_silent 86 = .ok (.ireturn, 1) := dk_172 (dk_at dksX6_silent_3 14 rfl rfl)
abbrev cX6_rightFrom : ByteArray := prog_15_method_68_code
def yX6_rightFrom : MethodName := ⟨RX6, "rightFrom", "(II)I"⟩
def dkwX6_rightFrom_3 : List UInt8 := [182, 0, 59, 172]
abbrev dktX6_rightFrom_3 : List UInt8 := dkwX6_rightFrom_3 ++ []
def dkwX6_rightFrom_2 : List UInt8 := [182, 1, 80, 153, 0, 10, 42, 21, 4, 182, 0, 59, 172, 132, 4, 1, 167, 255, 229, 42, 16, 254]
abbrev dktX6_rightFrom_2 : List UInt8 := dkwX6_rightFrom_2 ++ dktX6_rightFrom_3
def dkwX6_rightFrom_1 : List UInt8 := [182, 0, 55, 172, 42, 182, 1, 86, 28, 54, 4, 21, 4, 16, 100, 162, 0, 26, 42, 27, 21, 4]
abbrev dktX6_rightFrom_1 : List UInt8 := dkwX6_rightFrom_1 ++ dktX6_rightFrom_2
def dkwX6_rightFrom_0 : List UInt8 := [42, 3, 181, 0, 49, 42, 42, 27, 182, 1, 92, 28, 182, 1, 98, 62, 29, 158, 0, 9, 42, 29]
abbrev dktX6_rightFrom_0 : List UInt8 := dkwX6_rightFrom_0 ++ dktX6_rightFrom_1
theorem dksX6_rightFrom_0 : cX6_rightFrom.data.toList.drop 0 = dktX6_rightFrom_0 := by decide +kernel
theorem dksX6_rightFrom_1 : cX6_rightFrom.data.toList.drop 22 = dktX6_rightFrom_1 := dk_seg dksX6_rightFrom_0 22 rfl rfl
theorem dksX6_rightFrom_2 : cX6_rightFrom.data.toList.drop 44 = dktX6_rightFrom_2 := dk_seg dksX6_rightFrom_1 22 rfl rfl
theorem dksX6_rightFrom_3 : cX6_rightFrom.data.toList.drop 66 = dktX6_rightFrom_3 := dk_seg dksX6_rightFrom_2 22 rfl rfl
theorem dX6_rightFrom_0 : decode cX6_rightFrom 0 = .ok (.aload_n 0, 1) := dk_42 (dk_at dksX6_rightFrom_0 0 rfl rfl)
theorem dX6_rightFrom_1 : decode cX6_rightFrom 1 = .ok (.iconst 0, 1) := dk_3 (dk_at dksX6_rightFrom_0 1 rfl rfl)
theorem dX6_rightFrom_2 : decode cX6_rightFrom 2 = .ok (.putfield 49, 3) := dk_181 0 49 (dk_at dksX6_rightFrom_0 2 rfl rfl)
theorem dX6_rightFrom_5 : decode cX6_rightFrom 5 = .ok (.aload_n 0, 1) := dk_42 (dk_at dksX6_rightFrom_0 5 rfl rfl)
theorem dX6_rightFrom_6 : decode cX6_rightFrom 6 = .ok (.aload_n 0, 1) := dk_42 (dk_at dksX6_rightFrom_0 6 rfl rfl)
theorem dX6_rightFrom_7 : decode cX6_rightFrom 7 = .ok (.iload_n 1, 1) := dk_27 (dk_at dksX6_rightFrom_0 7 rfl rfl)
theorem dX6_rightFrom_8 : decode cX6_rightFrom 8 = .ok (.invokevirtual 348, 3) := dk_182 1 92 (dk_at dksX6_rightFrom_0 8 rfl rfl)
theorem dX6_rightFrom_11 : decode cX6_rightFrom 11 = .ok (.iload_n 2, 1) := dk_28 (dk_at dksX6_rightFrom_0 11 rfl rfl)
theorem dX6_rightFrom_12 : decode cX6_rightFrom 12 = .ok (.invokevirtual 354, 3) := dk_182 1 98 (dk_at dksX6_rightFrom_0 12 rfl rfl)
theorem dX6_rightFrom_15 : decode cX6_rightFrom 15 = .ok (.istore_n 3, 1) := dk_62 (dk_at dksX6_rightFrom_0 15 rfl rfl)
theorem dX6_rightFrom_16 : decode cX6_rightFrom 16 = .ok (.iload_n 3, 1) := dk_29 (dk_at dksX6_rightFrom_0 16 rfl rfl)
theorem dX6_rightFrom_17 : decode cX6_rightFrom 17 = .ok (.ifCond .le 9, 3) := dk_158 0 9 (dk_at dksX6_rightFrom_0 17 rfl rfl)
theorem dX6_rightFrom_20 : decode cX6_rightFrom 20 = .ok (.aload_n 0, 1) := dk_42 (dk_at dksX6_rightFrom_0 20 rfl rfl)
theorem dX6_rightFrom_21 : decode cX6_rightFrom 21 = .ok (.iload_n 3, 1) := dk_29 (dk_at dksX6_rightFrom_0 21 rfl rfl)
theorem dX6_rightFrom_22 : decode cX6_rightFrom 22 = .ok (.invokevirtual 55, 3) := dk_182 0 55 (dk_at dksX6_rightFrom_1 0 rfl rfl)
theorem dX6_rightFrom_25 : decode cX6_rightFrom 25 = .ok (.ireturn, 1) := dk_172 (dk_at dksX6_rightFrom_1 3 rfl rfl)
theorem dX6_rightFrom_26 : decode cX6_rightFrom 26 = .ok (.aload_n 0, 1) := dk_42 (dk_at dksX6_rightFrom_1 4 rfl rfl)
theorem dX6_rightFrom_27 : decode cX6_rightFrom 27 = .ok (.invokevirtual 342, 3) := dk_182 1 86 (dk_at dksX6_rightFrom_1 5 rfl rfl)
theorem dX6_rightFrom_30 : decode cX6_rightFrom 30 = .ok (.iload_n 2, 1) := dk_28 (dk_at dksX6_rightFrom_1 8 rfl rfl)
theorem dX6_rightFrom_31 : decode cX6_rightFrom 31 = .ok (.istore 4, 2) := dk_54 4 (dk_at dksX6_rightFrom_1 9 rfl rfl)
theorem dX6_rightFrom_33 : decode cX6_rightFrom 33 = .ok (.iload 4, 2) := dk_21 4 (dk_at dksX6_rightFrom_1 11 rfl rfl)
theorem dX6_rightFrom_35 : decode cX6_rightFrom 35 = .ok (.bipush 100, 2) := dk_16 100 (dk_at dksX6_rightFrom_1 13 rfl rfl)
theorem dX6_rightFrom_37 : decode cX6_rightFrom 37 = .ok (.if_icmp .ge 26, 3) := dk_162 0 26 (dk_at dksX6_rightFrom_1 15 rfl rfl)
theorem dX6_rightFrom_40 : decode cX6_rightFrom 40 = .ok (.aload_n 0, 1) := dk_42 (dk_at dksX6_rightFrom_1 18 rfl rfl)
theorem dX6_rightFrom_41 : decode cX6_rightFrom 41 = .ok (.iload_n 1, 1) := dk_27 (dk_at dksX6_rightFrom_1 19 rfl rfl)
theorem dX6_rightFrom_42 : decode cX6_rightFrom 42 = .ok (.iload 4, 2) := dk_21 4 (dk_at dksX6_rightFrom_1 20 rfl rfl)
theorem dX6_rightFrom_44 : decode cX6_rightFrom 44 = .ok (.invokevirtual 336, 3) := dk_182 1 80 (dk_at dksX6_rightFrom_2 0 rfl rfl)
theorem dX6_rightFrom_47 : decode cX6_rightFrom 47 = .ok (.ifCond .eq 10, 3) := dk_153 0 10 (dk_at dksX6_rightFrom_2 3 rfl rfl)
theorem dX6_rightFrom_50 : decode cX6_rightFrom 50 = .ok (.aload_n 0, 1) := dk_42 (dk_at dksX6_rightFrom_2 6 rfl rfl)
theorem dX6_rightFrom_51 : decode cX6_rightFrom 51 = .ok (.iload 4, 2) := dk_21 4 (dk_at dksX6_rightFrom_2 7 rfl rfl)
theorem dX6_rightFrom_53 : decode cX6_rightFrom 53 = .ok (.invokevirtual 59, 3) := dk_182 0 59 (dk_at dksX6_rightFrom_2 9 rfl rfl)
theorem dX6_rightFrom_56 : decode cX6_rightFrom 56 = .ok (.ireturn, 1) := dk_172 (dk_at dksX6_rightFrom_2 12 rfl rfl)
theorem dX6_rightFrom_57 : decode cX6_rightFrom 57 = .ok (.iinc 4 1, 3) := dk_132 4 1 (dk_at dksX6_rightFrom_2 13 rfl rfl)
theorem dX6_rightFrom_60 : decode cX6_rightFrom 60 = .ok (.goto (-27), 3) := dk_167 255 229 (dk_at dksX6_rightFrom_2 16 rfl rfl)
theorem dX6_rightFrom_63 : decode cX6_rightFrom 63 = .ok (.aload_n 0, 1) := dk_42 (dk_at dksX6_rightFrom_2 19 rfl rfl)
theorem dX6_rightFrom_64 : decode cX6_rightFrom 64 = .ok (.bipush (-2), 2) := dk_16 254 (dk_at dksX6_rightFrom_2 20 rfl rfl)
theorem dX6_rightFrom_66 : decode cX6_rightFrom 66 = .ok (.invokevirtual 59, 3) := dk_182 0 59 (dk_at dksX6_rightFrom_3 0 rfl rfl)
theorem dX6_rightFrom_69 : decode cX6_rightFrom 69 = .ok (.ireturn, 1) := dk_172 (dk_at dksX6_rightFrom_3 3 rfl rfl)
abbrev cX6_nightsOf : ByteArray := prog_15_method_69_code
def yX6_nightsOf : MethodName := ⟨RX6, "nightsOf", "(II)I"⟩
def dkwX6_nightsOf_3 : List UInt8 := [182, 0, 59, 172]
abbrev dktX6_nightsOf_3 : List UInt8 := dkwX6_nightsOf_3 ++ []
def dkwX6_nightsOf_2 : List UInt8 := [21, 4, 182, 1, 77, 27, 160, 0, 7, 4, 167, 0, 4, 3, 96, 62, 132, 4, 1, 167, 255, 227, 42, 29]
abbrev dktX6_nightsOf_2 : List UInt8 := dkwX6_nightsOf_2 ++ dktX6_nightsOf_3
def dkwX6_nightsOf_1 : List UInt8 := [182, 0, 55, 172, 42, 182, 1, 86, 3, 62, 3, 54, 4, 21, 4, 16, 100, 162, 0, 28, 29, 42, 28]
abbrev dktX6_nightsOf_1 : List UInt8 := dkwX6_nightsOf_1 ++ dktX6_nightsOf_2
def dkwX6_nightsOf_0 : List UInt8 := [42, 3, 181, 0, 49, 42, 27, 182, 1, 83, 153, 0, 11, 42, 28, 182, 1, 92, 154, 0, 9, 42, 4]
abbrev dktX6_nightsOf_0 : List UInt8 := dkwX6_nightsOf_0 ++ dktX6_nightsOf_1
theorem dksX6_nightsOf_0 : cX6_nightsOf.data.toList.drop 0 = dktX6_nightsOf_0 := by decide +kernel
theorem dksX6_nightsOf_1 : cX6_nightsOf.data.toList.drop 23 = dktX6_nightsOf_1 := dk_seg dksX6_nightsOf_0 23 rfl rfl
theorem dksX6_nightsOf_2 : cX6_nightsOf.data.toList.drop 46 = dktX6_nightsOf_2 := dk_seg dksX6_nightsOf_1 23 rfl rfl
theorem dksX6_nightsOf_3 : cX6_nightsOf.data.toList.drop 70 = dktX6_nightsOf_3 := dk_seg dksX6_nightsOf_2 24 rfl rfl
theorem dX6_nightsOf_0 : decode cX6_nightsOf 0 = .ok (.aload_n 0, 1) := dk_42 (dk_at dksX6_nightsOf_0 0 rfl rfl)
theorem dX6_nightsOf_1 : decode cX6_nightsOf 1 = .ok (.iconst 0, 1) := dk_3 (dk_at dksX6_nightsOf_0 1 rfl rfl)
theorem dX6_nightsOf_2 : decode cX6_nightsOf 2 = .ok (.putfield 49, 3) := dk_181 0 49 (dk_at dksX6_nightsOf_0 2 rfl rfl)
theorem dX6_nightsOf_5 : decode cX6_nightsOf 5 = .ok (.aload_n 0, 1) := dk_42 (dk_at dksX6_nightsOf_0 5 rfl rfl)
theorem dX6_nightsOf_6 : decode cX6_nightsOf 6 = .ok (.iload_n 1, 1) := dk_27 (dk_at dksX6_nightsOf_0 6 rfl rfl)
theorem dX6_nightsOf_7 : decode cX6_nightsOf 7 = .ok (.invokevirtual 339, 3) := dk_182 1 83 (dk_at dksX6_nightsOf_0 7 rfl rfl)
theorem dX6_nightsOf_10 : decode cX6_nightsOf 10 = .ok (.ifCond .eq 11, 3) := dk_153 0 11 (dk_at dksX6_nightsOf_0 10 rfl rfl)
theorem dX6_nightsOf_13 : decode cX6_nightsOf 13 = .ok (.aload_n 0, 1) := dk_42 (dk_at dksX6_nightsOf_0 13 rfl rfl)
theorem dX6_nightsOf_14 : decode cX6_nightsOf 14 = .ok (.iload_n 2, 1) := dk_28 (dk_at dksX6_nightsOf_0 14 rfl rfl)
theorem dX6_nightsOf_15 : decode cX6_nightsOf 15 = .ok (.invokevirtual 348, 3) := dk_182 1 92 (dk_at dksX6_nightsOf_0 15 rfl rfl)
theorem dX6_nightsOf_18 : decode cX6_nightsOf 18 = .ok (.ifCond .ne 9, 3) := dk_154 0 9 (dk_at dksX6_nightsOf_0 18 rfl rfl)
theorem dX6_nightsOf_21 : decode cX6_nightsOf 21 = .ok (.aload_n 0, 1) := dk_42 (dk_at dksX6_nightsOf_0 21 rfl rfl)
theorem dX6_nightsOf_22 : decode cX6_nightsOf 22 = .ok (.iconst 1, 1) := dk_4 (dk_at dksX6_nightsOf_0 22 rfl rfl)
theorem dX6_nightsOf_23 : decode cX6_nightsOf 23 = .ok (.invokevirtual 55, 3) := dk_182 0 55 (dk_at dksX6_nightsOf_1 0 rfl rfl)
theorem dX6_nightsOf_26 : decode cX6_nightsOf 26 = .ok (.ireturn, 1) := dk_172 (dk_at dksX6_nightsOf_1 3 rfl rfl)
theorem dX6_nightsOf_27 : decode cX6_nightsOf 27 = .ok (.aload_n 0, 1) := dk_42 (dk_at dksX6_nightsOf_1 4 rfl rfl)
theorem dX6_nightsOf_28 : decode cX6_nightsOf 28 = .ok (.invokevirtual 342, 3) := dk_182 1 86 (dk_at dksX6_nightsOf_1 5 rfl rfl)
theorem dX6_nightsOf_31 : decode cX6_nightsOf 31 = .ok (.iconst 0, 1) := dk_3 (dk_at dksX6_nightsOf_1 8 rfl rfl)
theorem dX6_nightsOf_32 : decode cX6_nightsOf 32 = .ok (.istore_n 3, 1) := dk_62 (dk_at dksX6_nightsOf_1 9 rfl rfl)
theorem dX6_nightsOf_33 : decode cX6_nightsOf 33 = .ok (.iconst 0, 1) := dk_3 (dk_at dksX6_nightsOf_1 10 rfl rfl)
theorem dX6_nightsOf_34 : decode cX6_nightsOf 34 = .ok (.istore 4, 2) := dk_54 4 (dk_at dksX6_nightsOf_1 11 rfl rfl)
theorem dX6_nightsOf_36 : decode cX6_nightsOf 36 = .ok (.iload 4, 2) := dk_21 4 (dk_at dksX6_nightsOf_1 13 rfl rfl)
theorem dX6_nightsOf_38 : decode cX6_nightsOf 38 = .ok (.bipush 100, 2) := dk_16 100 (dk_at dksX6_nightsOf_1 15 rfl rfl)
theorem dX6_nightsOf_40 : decode cX6_nightsOf 40 = .ok (.if_icmp .ge 28, 3) := dk_162 0 28 (dk_at dksX6_nightsOf_1 17 rfl rfl)
theorem dX6_nightsOf_43 : decode cX6_nightsOf 43 = .ok (.iload_n 3, 1) := dk_29 (dk_at dksX6_nightsOf_1 20 rfl rfl)
theorem dX6_nightsOf_44 : decode cX6_nightsOf 44 = .ok (.aload_n 0, 1) := dk_42 (dk_at dksX6_nightsOf_1 21 rfl rfl)
theorem dX6_nightsOf_45 : decode cX6_nightsOf 45 = .ok (.iload_n 2, 1) := dk_28 (dk_at dksX6_nightsOf_1 22 rfl rfl)
theorem dX6_nightsOf_46 : decode cX6_nightsOf 46 = .ok (.iload 4, 2) := dk_21 4 (dk_at dksX6_nightsOf_2 0 rfl rfl)
theorem dX6_nightsOf_48 : decode cX6_nightsOf 48 = .ok (.invokevirtual 333, 3) := dk_182 1 77 (dk_at dksX6_nightsOf_2 2 rfl rfl)
theorem dX6_nightsOf_51 : decode cX6_nightsOf 51 = .ok (.iload_n 1, 1) := dk_27 (dk_at dksX6_nightsOf_2 5 rfl rfl)
theorem dX6_nightsOf_52 : decode cX6_nightsOf 52 = .ok (.if_icmp .ne 7, 3) := dk_160 0 7 (dk_at dksX6_nightsOf_2 6 rfl rfl)
theorem dX6_nightsOf_55 : decode cX6_nightsOf 55 = .ok (.iconst 1, 1) := dk_4 (dk_at dksX6_nightsOf_2 9 rfl rfl)
theorem dX6_nightsOf_56 : decode cX6_nightsOf 56 = .ok (.goto 4, 3) := dk_167 0 4 (dk_at dksX6_nightsOf_2 10 rfl rfl)
theorem dX6_nightsOf_59 : decode cX6_nightsOf 59 = .ok (.iconst 0, 1) := dk_3 (dk_at dksX6_nightsOf_2 13 rfl rfl)
theorem dX6_nightsOf_60 : decode cX6_nightsOf 60 = .ok (.iadd, 1) := dk_96 (dk_at dksX6_nightsOf_2 14 rfl rfl)
theorem dX6_nightsOf_61 : decode cX6_nightsOf 61 = .ok (.istore_n 3, 1) := dk_62 (dk_at dksX6_nightsOf_2 15 rfl rfl)
theorem dX6_nightsOf_62 : decode cX6_nightsOf 62 = .ok (.iinc 4 1, 3) := dk_132 4 1 (dk_at dksX6_nightsOf_2 16 rfl rfl)
theorem dX6_nightsOf_65 : decode cX6_nightsOf 65 = .ok (.goto (-29), 3) := dk_167 255 227 (dk_at dksX6_nightsOf_2 19 rfl rfl)
theorem dX6_nightsOf_68 : decode cX6_nightsOf 68 = .ok (.aload_n 0, 1) := dk_42 (dk_at dksX6_nightsOf_2 22 rfl rfl)
theorem dX6_nightsOf_69 : decode cX6_nightsOf 69 = .ok (.iload_n 3, 1) := dk_29 (dk_at dksX6_nightsOf_2 23 rfl rfl)
theorem dX6_nightsOf_70 : decode cX6_nightsOf 70 = .ok (.invokevirtual 59, 3) := dk_182 0 59 (dk_at dksX6_nightsOf_3 0 rfl rfl)
theorem dX6_nightsOf_73 : decode cX6_nightsOf 73 = .ok (.ireturn, 1) := dk_172 (dk_at dksX6_nightsOf_3 3 rfl rfl)
abbrev cX6_round : ByteArray := prog_15_method_71_code
def yX6_round : MethodName := ⟨RX6, "round", "(I)I"⟩
def dkwX6_round_1 : List UInt8 := [61, 42, 27, 28, 182, 1, 108, 154, 0, 9, 132, 2, 1, 167, 255, 244, 42, 28, 182, 0, 59, 172]
abbrev dktX6_round_1 : List UInt8 := dkwX6_round_1 ++ []
def dkwX6_round_0 : List UInt8 := [42, 3, 181, 0, 49, 42, 27, 182, 1, 92, 154, 0, 9, 42, 4, 182, 0, 55, 172, 42, 182, 1, 86, 4]
abbrev dktX6_round_0 : List UInt8 := dkwX6_round_0 ++ dktX6_round_1
theorem dksX6_round_0 : cX6_round.data.toList.drop 0 = dktX6_round_0 := by decide +kernel
theorem dksX6_round_1 : cX6_round.data.toList.drop 24 = dktX6_round_1 := dk_seg dksX6_round_0 24 rfl rfl
theorem dX6_round_0 : decode cX6_round 0 = .ok (.aload_n 0, 1) := dk_42 (dk_at dksX6_round_0 0 rfl rfl)
theorem dX6_round_1 : decode cX6_round 1 = .ok (.iconst 0, 1) := dk_3 (dk_at dksX6_round_0 1 rfl rfl)
theorem dX6_round_2 : decode cX6_round 2 = .ok (.putfield 49, 3) := dk_181 0 49 (dk_at dksX6_round_0 2 rfl rfl)
theorem dX6_round_5 : decode cX6_round 5 = .ok (.aload_n 0, 1) := dk_42 (dk_at dksX6_round_0 5 rfl rfl)
theorem dX6_round_6 : decode cX6_round 6 = .ok (.iload_n 1, 1) := dk_27 (dk_at dksX6_round_0 6 rfl rfl)
theorem dX6_round_7 : decode cX6_round 7 = .ok (.invokevirtual 348, 3) := dk_182 1 92 (dk_at dksX6_round_0 7 rfl rfl)
theorem dX6_round_10 : decode cX6_round 10 = .ok (.ifCond .ne 9, 3) := dk_154 0 9 (dk_at dksX6_round_0 10 rfl rfl)
theorem dX6_round_13 : decode cX6_round 13 = .ok (.aload_n 0, 1) := dk_42 (dk_at dksX6_round_0 13 rfl rfl)
theorem dX6_round_14 : decode cX6_round 14 = .ok (.iconst 1, 1) := dk_4 (dk_at dksX6_round_0 14 rfl rfl)
theorem dX6_round_15 : decode cX6_round 15 = .ok (.invokevirtual 55, 3) := dk_182 0 55 (dk_at dksX6_round_0 15 rfl rfl)
theorem dX6_round_18 : decode cX6_round 18 = .ok (.ireturn, 1) := dk_172 (dk_at dksX6_round_0 18 rfl rfl)
theorem dX6_round_19 : decode cX6_round 19 = .ok (.aload_n 0, 1) := dk_42 (dk_at dksX6_round_0 19 rfl rfl)
theorem dX6_round_20 : decode cX6_round 20 = .ok (.invokevirtual 342, 3) := dk_182 1 86 (dk_at dksX6_round_0 20 rfl rfl)
theorem dX6_round_23 : decode cX6_round 23 = .ok (.iconst 1, 1) := dk_4 (dk_at dksX6_round_0 23 rfl rfl)
theorem dX6_round_24 : decode cX6_round 24 = .ok (.istore_n 2, 1) := dk_61 (dk_at dksX6_round_1 0 rfl rfl)
theorem dX6_round_25 : decode cX6_round 25 = .ok (.aload_n 0, 1) := dk_42 (dk_at dksX6_round_1 1 rfl rfl)
theorem dX6_round_26 : decode cX6_round 26 = .ok (.iload_n 1, 1) := dk_27 (dk_at dksX6_round_1 2 rfl rfl)
theorem dX6_round_27 : decode cX6_round 27 = .ok (.iload_n 2, 1) := dk_28 (dk_at dksX6_round_1 3 rfl rfl)
theorem dX6_round_28 : decode cX6_round 28 = .ok (.invokevirtual 364, 3) := dk_182 1 108 (dk_at dksX6_round_1 4 rfl rfl)
theorem dX6_round_31 : decode cX6_round 31 = .ok (.ifCond .ne 9, 3) := dk_154 0 9 (dk_at dksX6_round_1 7 rfl rfl)
theorem dX6_round_34 : decode cX6_round 34 = .ok (.iinc 2 1, 3) := dk_132 2 1 (dk_at dksX6_round_1 10 rfl rfl)
theorem dX6_round_37 : decode cX6_round 37 = .ok (.goto (-12), 3) := dk_167 255 244 (dk_at dksX6_round_1 13 rfl rfl)
theorem dX6_round_40 : decode cX6_round 40 = .ok (.aload_n 0, 1) := dk_42 (dk_at dksX6_round_1 16 rfl rfl)
theorem dX6_round_41 : decode cX6_round 41 = .ok (.iload_n 2, 1) := dk_28 (dk_at dksX6_round_1 17 rfl rfl)
theorem dX6_round_42 : decode cX6_round 42 = .ok (.invokevirtual 59, 3) := dk_182 0 59 (dk_at dksX6_round_1 18 rfl rfl)
theorem dX6_round_45 : decode cX6_round 45 = .ok (.ireturn, 1) := dk_172 (dk_at dksX6_round_1 21 rfl rfl)
abbrev cX6_comesRound : ByteArray := prog_15_method_70_code
def yX6_comesRound : MethodName := ⟨RX6, "comesRound", "(II)Z"⟩
def dkwX6_comesRound_1 : List UInt8 := [182, 1, 67, 29, 28, 96, 182, 1, 70, 159, 0, 5, 3, 172, 132, 3, 1, 167, 255, 219, 4, 172]
abbrev dktX6_comesRound_1 : List UInt8 := dkwX6_comesRound_1 ++ []
def dkwX6_comesRound_0 : List UInt8 := [3, 62, 29, 5, 162, 0, 38, 42, 27, 42, 27, 182, 1, 67, 29, 182, 1, 70, 42, 27, 42, 27]
abbrev dktX6_comesRound_0 : List UInt8 := dkwX6_comesRound_0 ++ dktX6_comesRound_1
theorem dksX6_comesRound_0 : cX6_comesRound.data.toList.drop 0 = dktX6_comesRound_0 := by decide +kernel
theorem dksX6_comesRound_1 : cX6_comesRound.data.toList.drop 22 = dktX6_comesRound_1 := dk_seg dksX6_comesRound_0 22 rfl rfl
theorem dX6_comesRound_0 : decode cX6_comesRound 0 = .ok (.iconst 0, 1) := dk_3 (dk_at dksX6_comesRound_0 0 rfl rfl)
theorem dX6_comesRound_1 : decode cX6_comesRound 1 = .ok (.istore_n 3, 1) := dk_62 (dk_at dksX6_comesRound_0 1 rfl rfl)
theorem dX6_comesRound_2 : decode cX6_comesRound 2 = .ok (.iload_n 3, 1) := dk_29 (dk_at dksX6_comesRound_0 2 rfl rfl)
theorem dX6_comesRound_3 : decode cX6_comesRound 3 = .ok (.iconst 2, 1) := dk_5 (dk_at dksX6_comesRound_0 3 rfl rfl)
theorem dX6_comesRound_4 : decode cX6_comesRound 4 = .ok (.if_icmp .ge 38, 3) := dk_162 0 38 (dk_at dksX6_comesRound_0 4 rfl rfl)
theorem dX6_comesRound_7 : decode cX6_comesRound 7 = .ok (.aload_n 0, 1) := dk_42 (dk_at dksX6_comesRound_0 7 rfl rfl)
theorem dX6_comesRound_8 : decode cX6_comesRound 8 = .ok (.iload_n 1, 1) := dk_27 (dk_at dksX6_comesRound_0 8 rfl rfl)
theorem dX6_comesRound_9 : decode cX6_comesRound 9 = .ok (.aload_n 0, 1) := dk_42 (dk_at dksX6_comesRound_0 9 rfl rfl)
theorem dX6_comesRound_10 : decode cX6_comesRound 10 = .ok (.iload_n 1, 1) := dk_27 (dk_at dksX6_comesRound_0 10 rfl rfl)
theorem dX6_comesRound_11 : decode cX6_comesRound 11 = .ok (.invokevirtual 323, 3) := dk_182 1 67 (dk_at dksX6_comesRound_0 11 rfl rfl)
theorem dX6_comesRound_14 : decode cX6_comesRound 14 = .ok (.iload_n 3, 1) := dk_29 (dk_at dksX6_comesRound_0 14 rfl rfl)
theorem dX6_comesRound_15 : decode cX6_comesRound 15 = .ok (.invokevirtual 326, 3) := dk_182 1 70 (dk_at dksX6_comesRound_0 15 rfl rfl)
theorem dX6_comesRound_18 : decode cX6_comesRound 18 = .ok (.aload_n 0, 1) := dk_42 (dk_at dksX6_comesRound_0 18 rfl rfl)
theorem dX6_comesRound_19 : decode cX6_comesRound 19 = .ok (.iload_n 1, 1) := dk_27 (dk_at dksX6_comesRound_0 19 rfl rfl)
theorem dX6_comesRound_20 : decode cX6_comesRound 20 = .ok (.aload_n 0, 1) := dk_42 (dk_at dksX6_comesRound_0 20 rfl rfl)
theorem dX6_comesRound_21 : decode cX6_comesRound 21 = .ok (.iload_n 1, 1) := dk_27 (dk_at dksX6_comesRound_0 21 rfl rfl)
theorem dX6_comesRound_22 : decode cX6_comesRound 22 = .ok (.invokevirtual 323, 3) := dk_182 1 67 (dk_at dksX6_comesRound_1 0 rfl rfl)
theorem dX6_comesRound_25 : decode cX6_comesRound 25 = .ok (.iload_n 3, 1) := dk_29 (dk_at dksX6_comesRound_1 3 rfl rfl)
theorem dX6_comesRound_26 : decode cX6_comesRound 26 = .ok (.iload_n 2, 1) := dk_28 (dk_at dksX6_comesRound_1 4 rfl rfl)
theorem dX6_comesRound_27 : decode cX6_comesRound 27 = .ok (.iadd, 1) := dk_96 (dk_at dksX6_comesRound_1 5 rfl rfl)
theorem dX6_comesRound_28 : decode cX6_comesRound 28 = .ok (.invokevirtual 326, 3) := dk_182 1 70 (dk_at dksX6_comesRound_1 6 rfl rfl)
theorem dX6_comesRound_31 : decode cX6_comesRound 31 = .ok (.if_icmp .eq 5, 3) := dk_159 0 5 (dk_at dksX6_comesRound_1 9 rfl rfl)
theorem dX6_comesRound_34 : decode cX6_comesRound 34 = .ok (.iconst 0, 1) := dk_3 (dk_at dksX6_comesRound_1 12 rfl rfl)
theorem dX6_comesRound_35 : decode cX6_comesRound 35 = .ok (.ireturn, 1) := dk_172 (dk_at dksX6_comesRound_1 13 rfl rfl)
theorem dX6_comesRound_36 : decode cX6_comesRound 36 = .ok (.iinc 3 1, 3) := dk_132 3 1 (dk_at dksX6_comesRound_1 14 rfl rfl)
theorem dX6_comesRound_39 : decode cX6_comesRound 39 = .ok (.goto (-37), 3) := dk_167 255 219 (dk_at dksX6_comesRound_1 17 rfl rfl)
theorem dX6_comesRound_42 : decode cX6_comesRound 42 = .ok (.iconst 1, 1) := dk_4 (dk_at dksX6_comesRound_1 20 rfl rfl)
theorem dX6_comesRound_43 : decode cX6_comesRound 43 = .ok (.ireturn, 1) := dk_172 (dk_at dksX6_comesRound_1 21 rfl rfl)
abbrev cX6_bestNight : ByteArray := prog_15_method_72_code
def yX6_bestNight : MethodName := ⟨RX6, "bestNight", "()I"⟩
def dkwX6_bestNight_2 : List UInt8 := [163, 0, 6, 167, 0, 8, 21, 4, 61, 29, 60, 132, 3, 1, 167, 255, 223, 42, 27, 182, 0, 59, 172]
abbrev dktX6_bestNight_2 : List UInt8 := dkwX6_bestNight_2 ++ []
def dkwX6_bestNight_1 : List UInt8 := [2, 61, 3, 62, 29, 16, 100, 162, 0, 33, 42, 29, 182, 1, 102, 184, 1, 105, 54, 4, 21, 4, 28]
abbrev dktX6_bestNight_1 : List UInt8 := dkwX6_bestNight_1 ++ dktX6_bestNight_2
def dkwX6_bestNight_0 : List UInt8 := [42, 3, 181, 0, 49, 42, 180, 1, 47, 199, 0, 9, 42, 4, 182, 0, 55, 172, 42, 182, 1, 86, 3, 60]
abbrev dktX6_bestNight_0 : List UInt8 := dkwX6_bestNight_0 ++ dktX6_bestNight_1
theorem dksX6_bestNight_0 : cX6_bestNight.data.toList.drop 0 = dktX6_bestNight_0 := by decide +kernel
theorem dksX6_bestNight_1 : cX6_bestNight.data.toList.drop 24 = dktX6_bestNight_1 := dk_seg dksX6_bestNight_0 24 rfl rfl
theorem dksX6_bestNight_2 : cX6_bestNight.data.toList.drop 47 = dktX6_bestNight_2 := dk_seg dksX6_bestNight_1 23 rfl rfl
theorem dX6_bestNight_0 : decode cX6_bestNight 0 = .ok (.aload_n 0, 1) := dk_42 (dk_at dksX6_bestNight_0 0 rfl rfl)
theorem dX6_bestNight_1 : decode cX6_bestNight 1 = .ok (.iconst 0, 1) := dk_3 (dk_at dksX6_bestNight_0 1 rfl rfl)
theorem dX6_bestNight_2 : decode cX6_bestNight 2 = .ok (.putfield 49, 3) := dk_181 0 49 (dk_at dksX6_bestNight_0 2 rfl rfl)
theorem dX6_bestNight_5 : decode cX6_bestNight 5 = .ok (.aload_n 0, 1) := dk_42 (dk_at dksX6_bestNight_0 5 rfl rfl)
theorem dX6_bestNight_6 : decode cX6_bestNight 6 = .ok (.getfield 303, 3) := dk_180 1 47 (dk_at dksX6_bestNight_0 6 rfl rfl)
theorem dX6_bestNight_9 : decode cX6_bestNight 9 = .ok (.ifnonnull 9, 3) := dk_199 0 9 (dk_at dksX6_bestNight_0 9 rfl rfl)
theorem dX6_bestNight_12 : decode cX6_bestNight 12 = .ok (.aload_n 0, 1) := dk_42 (dk_at dksX6_bestNight_0 12 rfl rfl)
theorem dX6_bestNight_13 : decode cX6_bestNight 13 = .ok (.iconst 1, 1) := dk_4 (dk_at dksX6_bestNight_0 13 rfl rfl)
theorem dX6_bestNight_14 : decode cX6_bestNight 14 = .ok (.invokevirtual 55, 3) := dk_182 0 55 (dk_at dksX6_bestNight_0 14 rfl rfl)
theorem dX6_bestNight_17 : decode cX6_bestNight 17 = .ok (.ireturn, 1) := dk_172 (dk_at dksX6_bestNight_0 17 rfl rfl)
theorem dX6_bestNight_18 : decode cX6_bestNight 18 = .ok (.aload_n 0, 1) := dk_42 (dk_at dksX6_bestNight_0 18 rfl rfl)
theorem dX6_bestNight_19 : decode cX6_bestNight 19 = .ok (.invokevirtual 342, 3) := dk_182 1 86 (dk_at dksX6_bestNight_0 19 rfl rfl)
theorem dX6_bestNight_22 : decode cX6_bestNight 22 = .ok (.iconst 0, 1) := dk_3 (dk_at dksX6_bestNight_0 22 rfl rfl)
theorem dX6_bestNight_23 : decode cX6_bestNight 23 = .ok (.istore_n 1, 1) := dk_60 (dk_at dksX6_bestNight_0 23 rfl rfl)
theorem dX6_bestNight_24 : decode cX6_bestNight 24 = .ok (.iconst (-1), 1) := dk_2 (dk_at dksX6_bestNight_1 0 rfl rfl)
theorem dX6_bestNight_25 : decode cX6_bestNight 25 = .ok (.istore_n 2, 1) := dk_61 (dk_at dksX6_bestNight_1 1 rfl rfl)
theorem dX6_bestNight_26 : decode cX6_bestNight 26 = .ok (.iconst 0, 1) := dk_3 (dk_at dksX6_bestNight_1 2 rfl rfl)
theorem dX6_bestNight_27 : decode cX6_bestNight 27 = .ok (.istore_n 3, 1) := dk_62 (dk_at dksX6_bestNight_1 3 rfl rfl)
theorem dX6_bestNight_28 : decode cX6_bestNight 28 = .ok (.iload_n 3, 1) := dk_29 (dk_at dksX6_bestNight_1 4 rfl rfl)
theorem dX6_bestNight_29 : decode cX6_bestNight 29 = .ok (.bipush 100, 2) := dk_16 100 (dk_at dksX6_bestNight_1 5 rfl rfl)
theorem dX6_bestNight_31 : decode cX6_bestNight 31 = .ok (.if_icmp .ge 33, 3) := dk_162 0 33 (dk_at dksX6_bestNight_1 7 rfl rfl)
theorem dX6_bestNight_34 : decode cX6_bestNight 34 = .ok (.aload_n 0, 1) := dk_42 (dk_at dksX6_bestNight_1 10 rfl rfl)
theorem dX6_bestNight_35 : decode cX6_bestNight 35 = .ok (.iload_n 3, 1) := dk_29 (dk_at dksX6_bestNight_1 11 rfl rfl)
theorem dX6_bestNight_36 : decode cX6_bestNight 36 = .ok (.invokevirtual 358, 3) := dk_182 1 102 (dk_at dksX6_bestNight_1 12 rfl rfl)
theorem dX6_bestNight_39 : decode cX6_bestNight 39 = .ok (.invokestatic 361, 3) := dk_184 1 105 (dk_at dksX6_bestNight_1 15 rfl rfl)
theorem dX6_bestNight_42 : decode cX6_bestNight 42 = .ok (.istore 4, 2) := dk_54 4 (dk_at dksX6_bestNight_1 18 rfl rfl)
theorem dX6_bestNight_44 : decode cX6_bestNight 44 = .ok (.iload 4, 2) := dk_21 4 (dk_at dksX6_bestNight_1 20 rfl rfl)
theorem dX6_bestNight_46 : decode cX6_bestNight 46 = .ok (.iload_n 2, 1) := dk_28 (dk_at dksX6_bestNight_1 22 rfl rfl)
theorem dX6_bestNight_47 : decode cX6_bestNight 47 = .ok (.if_icmp .gt 6, 3) := dk_163 0 6 (dk_at dksX6_bestNight_2 0 rfl rfl)
theorem dX6_bestNight_50 : decode cX6_bestNight 50 = .ok (.goto 8, 3) := dk_167 0 8 (dk_at dksX6_bestNight_2 3 rfl rfl)
theorem dX6_bestNight_53 : decode cX6_bestNight 53 = .ok (.iload 4, 2) := dk_21 4 (dk_at dksX6_bestNight_2 6 rfl rfl)
theorem dX6_bestNight_55 : decode cX6_bestNight 55 = .ok (.istore_n 2, 1) := dk_61 (dk_at dksX6_bestNight_2 8 rfl rfl)
theorem dX6_bestNight_56 : decode cX6_bestNight 56 = .ok (.iload_n 3, 1) := dk_29 (dk_at dksX6_bestNight_2 9 rfl rfl)
theorem dX6_bestNight_57 : decode cX6_bestNight 57 = .ok (.istore_n 1, 1) := dk_60 (dk_at dksX6_bestNight_2 10 rfl rfl)
theorem dX6_bestNight_58 : decode cX6_bestNight 58 = .ok (.iinc 3 1, 3) := dk_132 3 1 (dk_at dksX6_bestNight_2 11 rfl rfl)
theorem dX6_bestNight_61 : decode cX6_bestNight 61 = .ok (.goto (-33), 3) := dk_167 255 223 (dk_at dksX6_bestNight_2 14 rfl rfl)
theorem dX6_bestNight_64 : decode cX6_bestNight 64 = .ok (.aload_n 0, 1) := dk_42 (dk_at dksX6_bestNight_2 17 rfl rfl)
theorem dX6_bestNight_65 : decode cX6_bestNight 65 = .ok (.iload_n 1, 1) := dk_27 (dk_at dksX6_bestNight_2 18 rfl rfl)
theorem dX6_bestNight_66 : decode cX6_bestNight 66 = .ok (.invokevirtual 59, 3) := dk_182 0 59 (dk_at dksX6_bestNight_2 19 rfl rfl)
theorem dX6_bestNight_69 : decode cX6_bestNight 69 = .ok (.ireturn, 1) := dk_172 (dk_at dksX6_bestNight_2 22 rfl rfl)
abbrev cX6_perfect : ByteArray := prog_15_method_73_code
def yX6_perfect : MethodName := ⟨RX6, "perfect", "()I"⟩
def dkwX6_perfect_2 : List UInt8 := [160, 0, 7, 4, 167, 0, 4, 3, 96, 60, 132, 2, 1, 167, 255, 221, 42, 27, 182, 0, 59, 172]
abbrev dktX6_perfect_2 : List UInt8 := dkwX6_perfect_2 ++ []
def dkwX6_perfect_1 : List UInt8 := [3, 61, 28, 16, 100, 162, 0, 35, 27, 42, 28, 182, 1, 102, 184, 1, 105, 42, 180, 1, 47, 180, 0, 241]
abbrev dktX6_perfect_1 : List UInt8 := dkwX6_perfect_1 ++ dktX6_perfect_2
def dkwX6_perfect_0 : List UInt8 := [42, 3, 181, 0, 49, 42, 180, 1, 47, 199, 0, 9, 42, 4, 182, 0, 55, 172, 42, 182, 1, 86, 3, 60]
abbrev dktX6_perfect_0 : List UInt8 := dkwX6_perfect_0 ++ dktX6_perfect_1
theorem dksX6_perfect_0 : cX6_perfect.data.toList.drop 0 = dktX6_perfect_0 := by decide +kernel
theorem dksX6_perfect_1 : cX6_perfect.data.toList.drop 24 = dktX6_perfect_1 := dk_seg dksX6_perfect_0 24 rfl rfl
theorem dksX6_perfect_2 : cX6_perfect.data.toList.drop 48 = dktX6_perfect_2 := dk_seg dksX6_perfect_1 24 rfl rfl
theorem dX6_perfect_0 : decode cX6_perfect 0 = .ok (.aload_n 0, 1) := dk_42 (dk_at dksX6_perfect_0 0 rfl rfl)
theorem dX6_perfect_1 : decode cX6_perfect 1 = .ok (.iconst 0, 1) := dk_3 (dk_at dksX6_perfect_0 1 rfl rfl)
theorem dX6_perfect_2 : decode cX6_perfect 2 = .ok (.putfield 49, 3) := dk_181 0 49 (dk_at dksX6_perfect_0 2 rfl rfl)
theorem dX6_perfect_5 : decode cX6_perfect 5 = .ok (.aload_n 0, 1) := dk_42 (dk_at dksX6_perfect_0 5 rfl rfl)
theorem dX6_perfect_6 : decode cX6_perfect 6 = .ok (.getfield 303, 3) := dk_180 1 47 (dk_at dksX6_perfect_0 6 rfl rfl)
theorem dX6_perfect_9 : decode cX6_perfect 9 = .ok (.ifnonnull 9, 3) := dk_199 0 9 (dk_at dksX6_perfect_0 9 rfl rfl)
theorem dX6_perfect_12 : decode cX6_perfect 12 = .ok (.aload_n 0, 1) := dk_42 (dk_at dksX6_perfect_0 12 rfl rfl)
theorem dX6_perfect_13 : decode cX6_perfect 13 = .ok (.iconst 1, 1) := dk_4 (dk_at dksX6_perfect_0 13 rfl rfl)
theorem dX6_perfect_14 : decode cX6_perfect 14 = .ok (.invokevirtual 55, 3) := dk_182 0 55 (dk_at dksX6_perfect_0 14 rfl rfl)
theorem dX6_perfect_17 : decode cX6_perfect 17 = .ok (.ireturn, 1) := dk_172 (dk_at dksX6_perfect_0 17 rfl rfl)
theorem dX6_perfect_18 : decode cX6_perfect 18 = .ok (.aload_n 0, 1) := dk_42 (dk_at dksX6_perfect_0 18 rfl rfl)
theorem dX6_perfect_19 : decode cX6_perfect 19 = .ok (.invokevirtual 342, 3) := dk_182 1 86 (dk_at dksX6_perfect_0 19 rfl rfl)
theorem dX6_perfect_22 : decode cX6_perfect 22 = .ok (.iconst 0, 1) := dk_3 (dk_at dksX6_perfect_0 22 rfl rfl)
theorem dX6_perfect_23 : decode cX6_perfect 23 = .ok (.istore_n 1, 1) := dk_60 (dk_at dksX6_perfect_0 23 rfl rfl)
theorem dX6_perfect_24 : decode cX6_perfect 24 = .ok (.iconst 0, 1) := dk_3 (dk_at dksX6_perfect_1 0 rfl rfl)
theorem dX6_perfect_25 : decode cX6_perfect 25 = .ok (.istore_n 2, 1) := dk_61 (dk_at dksX6_perfect_1 1 rfl rfl)
theorem dX6_perfect_26 : decode cX6_perfect 26 = .ok (.iload_n 2, 1) := dk_28 (dk_at dksX6_perfect_1 2 rfl rfl)
theorem dX6_perfect_27 : decode cX6_perfect 27 = .ok (.bipush 100, 2) := dk_16 100 (dk_at dksX6_perfect_1 3 rfl rfl)
theorem dX6_perfect_29 : decode cX6_perfect 29 = .ok (.if_icmp .ge 35, 3) := dk_162 0 35 (dk_at dksX6_perfect_1 5 rfl rfl)
theorem dX6_perfect_32 : decode cX6_perfect 32 = .ok (.iload_n 1, 1) := dk_27 (dk_at dksX6_perfect_1 8 rfl rfl)
theorem dX6_perfect_33 : decode cX6_perfect 33 = .ok (.aload_n 0, 1) := dk_42 (dk_at dksX6_perfect_1 9 rfl rfl)
theorem dX6_perfect_34 : decode cX6_perfect 34 = .ok (.iload_n 2, 1) := dk_28 (dk_at dksX6_perfect_1 10 rfl rfl)
theorem dX6_perfect_35 : decode cX6_perfect 35 = .ok (.invokevirtual 358, 3) := dk_182 1 102 (dk_at dksX6_perfect_1 11 rfl rfl)
theorem dX6_perfect_38 : decode cX6_perfect 38 = .ok (.invokestatic 361, 3) := dk_184 1 105 (dk_at dksX6_perfect_1 14 rfl rfl)
theorem dX6_perfect_41 : decode cX6_perfect 41 = .ok (.aload_n 0, 1) := dk_42 (dk_at dksX6_perfect_1 17 rfl rfl)
theorem dX6_perfect_42 : decode cX6_perfect 42 = .ok (.getfield 303, 3) := dk_180 1 47 (dk_at dksX6_perfect_1 18 rfl rfl)
theorem dX6_perfect_45 : decode cX6_perfect 45 = .ok (.getfield 241, 3) := dk_180 0 241 (dk_at dksX6_perfect_1 21 rfl rfl)
theorem dX6_perfect_48 : decode cX6_perfect 48 = .ok (.if_icmp .ne 7, 3) := dk_160 0 7 (dk_at dksX6_perfect_2 0 rfl rfl)
theorem dX6_perfect_51 : decode cX6_perfect 51 = .ok (.iconst 1, 1) := dk_4 (dk_at dksX6_perfect_2 3 rfl rfl)
theorem dX6_perfect_52 : decode cX6_perfect 52 = .ok (.goto 4, 3) := dk_167 0 4 (dk_at dksX6_perfect_2 4 rfl rfl)
theorem dX6_perfect_55 : decode cX6_perfect 55 = .ok (.iconst 0, 1) := dk_3 (dk_at dksX6_perfect_2 7 rfl rfl)
theorem dX6_perfect_56 : decode cX6_perfect 56 = .ok (.iadd, 1) := dk_96 (dk_at dksX6_perfect_2 8 rfl rfl)
theorem dX6_perfect_57 : decode cX6_perfect 57 = .ok (.istore_n 1, 1) := dk_60 (dk_at dksX6_perfect_2 9 rfl rfl)
theorem dX6_perfect_58 : decode cX6_perfect 58 = .ok (.iinc 2 1, 3) := dk_132 2 1 (dk_at dksX6_perfect_2 10 rfl rfl)
theorem dX6_perfect_61 : decode cX6_perfect 61 = .ok (.goto (-35), 3) := dk_167 255 221 (dk_at dksX6_perfect_2 13 rfl rfl)
theorem dX6_perfect_64 : decode cX6_perfect 64 = .ok (.aload_n 0, 1) := dk_42 (dk_at dksX6_perfect_2 16 rfl rfl)
theorem dX6_perfect_65 : decode cX6_perfect 65 = .ok (.iload_n 1, 1) := dk_27 (dk_at dksX6_perfect_2 17 rfl rfl)
theorem dX6_perfect_66 : decode cX6_perfect 66 = .ok (.invokevirtual 59, 3) := dk_182 0 59 (dk_at dksX6_perfect_2 18 rfl rfl)
theorem dX6_perfect_69 : decode cX6_perfect 69 = .ok (.ireturn, 1) := dk_172 (dk_at dksX6_perfect_2 21 rfl rfl)
abbrev cX6_together : ByteArray := prog_15_method_74_code
def yX6_together : MethodName := ⟨RX6, "together", "(II)I"⟩
def dkwX6_together_3 : List UInt8 := [42, 16, 254, 182, 0, 59, 172]
abbrev dktX6_together_3 : List UInt8 := dkwX6_together_3 ++ []
def dkwX6_together_2 : List UInt8 := [182, 1, 77, 42, 28, 29, 182, 1, 77, 160, 0, 9, 42, 29, 182, 0, 59, 172, 132, 3, 1, 167, 255, 226]
abbrev dktX6_together_2 : List UInt8 := dkwX6_together_2 ++ dktX6_together_3
def dkwX6_together_1 : List UInt8 := [160, 0, 9, 42, 4, 182, 0, 55, 172, 42, 182, 1, 86, 3, 62, 29, 16, 100, 162, 0, 30, 42, 27, 29]
abbrev dktX6_together_1 : List UInt8 := dkwX6_together_1 ++ dktX6_together_2
def dkwX6_together_0 : List UInt8 := [42, 3, 181, 0, 49, 42, 27, 182, 1, 92, 153, 0, 16, 42, 28, 182, 1, 92, 153, 0, 8, 27, 28]
abbrev dktX6_together_0 : List UInt8 := dkwX6_together_0 ++ dktX6_together_1
theorem dksX6_together_0 : cX6_together.data.toList.drop 0 = dktX6_together_0 := by decide +kernel
theorem dksX6_together_1 : cX6_together.data.toList.drop 23 = dktX6_together_1 := dk_seg dksX6_together_0 23 rfl rfl
theorem dksX6_together_2 : cX6_together.data.toList.drop 47 = dktX6_together_2 := dk_seg dksX6_together_1 24 rfl rfl
theorem dksX6_together_3 : cX6_together.data.toList.drop 71 = dktX6_together_3 := dk_seg dksX6_together_2 24 rfl rfl
theorem dX6_together_0 : decode cX6_together 0 = .ok (.aload_n 0, 1) := dk_42 (dk_at dksX6_together_0 0 rfl rfl)
theorem dX6_together_1 : decode cX6_together 1 = .ok (.iconst 0, 1) := dk_3 (dk_at dksX6_together_0 1 rfl rfl)
theorem dX6_together_2 : decode cX6_together 2 = .ok (.putfield 49, 3) := dk_181 0 49 (dk_at dksX6_together_0 2 rfl rfl)
theorem dX6_together_5 : decode cX6_together 5 = .ok (.aload_n 0, 1) := dk_42 (dk_at dksX6_together_0 5 rfl rfl)
theorem dX6_together_6 : decode cX6_together 6 = .ok (.iload_n 1, 1) := dk_27 (dk_at dksX6_together_0 6 rfl rfl)
theorem dX6_together_7 : decode cX6_together 7 = .ok (.invokevirtual 348, 3) := dk_182 1 92 (dk_at dksX6_together_0 7 rfl rfl)
theorem dX6_together_10 : decode cX6_together 10 = .ok (.ifCond .eq 16, 3) := dk_153 0 16 (dk_at dksX6_together_0 10 rfl rfl)
theorem dX6_together_13 : decode cX6_together 13 = .ok (.aload_n 0, 1) := dk_42 (dk_at dksX6_together_0 13 rfl rfl)
theorem dX6_together_14 : decode cX6_together 14 = .ok (.iload_n 2, 1) := dk_28 (dk_at dksX6_together_0 14 rfl rfl)
theorem dX6_together_15 : decode cX6_together 15 = .ok (.invokevirtual 348, 3) := dk_182 1 92 (dk_at dksX6_together_0 15 rfl rfl)
theorem dX6_together_18 : decode cX6_together 18 = .ok (.ifCond .eq 8, 3) := dk_153 0 8 (dk_at dksX6_together_0 18 rfl rfl)
theorem dX6_together_21 : decode cX6_together 21 = .ok (.iload_n 1, 1) := dk_27 (dk_at dksX6_together_0 21 rfl rfl)
theorem dX6_together_22 : decode cX6_together 22 = .ok (.iload_n 2, 1) := dk_28 (dk_at dksX6_together_0 22 rfl rfl)
theorem dX6_together_23 : decode cX6_together 23 = .ok (.if_icmp .ne 9, 3) := dk_160 0 9 (dk_at dksX6_together_1 0 rfl rfl)
theorem dX6_together_26 : decode cX6_together 26 = .ok (.aload_n 0, 1) := dk_42 (dk_at dksX6_together_1 3 rfl rfl)
theorem dX6_together_27 : decode cX6_together 27 = .ok (.iconst 1, 1) := dk_4 (dk_at dksX6_together_1 4 rfl rfl)
theorem dX6_together_28 : decode cX6_together 28 = .ok (.invokevirtual 55, 3) := dk_182 0 55 (dk_at dksX6_together_1 5 rfl rfl)
theorem dX6_together_31 : decode cX6_together 31 = .ok (.ireturn, 1) := dk_172 (dk_at dksX6_together_1 8 rfl rfl)
theorem dX6_together_32 : decode cX6_together 32 = .ok (.aload_n 0, 1) := dk_42 (dk_at dksX6_together_1 9 rfl rfl)
theorem dX6_together_33 : decode cX6_together 33 = .ok (.invokevirtual 342, 3) := dk_182 1 86 (dk_at dksX6_together_1 10 rfl rfl)
theorem dX6_together_36 : decode cX6_together 36 = .ok (.iconst 0, 1) := dk_3 (dk_at dksX6_together_1 13 rfl rfl)
theorem dX6_together_37 : decode cX6_together 37 = .ok (.istore_n 3, 1) := dk_62 (dk_at dksX6_together_1 14 rfl rfl)
theorem dX6_together_38 : decode cX6_together 38 = .ok (.iload_n 3, 1) := dk_29 (dk_at dksX6_together_1 15 rfl rfl)
theorem dX6_together_39 : decode cX6_together 39 = .ok (.bipush 100, 2) := dk_16 100 (dk_at dksX6_together_1 16 rfl rfl)
theorem dX6_together_41 : decode cX6_together 41 = .ok (.if_icmp .ge 30, 3) := dk_162 0 30 (dk_at dksX6_together_1 18 rfl rfl)
theorem dX6_together_44 : decode cX6_together 44 = .ok (.aload_n 0, 1) := dk_42 (dk_at dksX6_together_1 21 rfl rfl)
theorem dX6_together_45 : decode cX6_together 45 = .ok (.iload_n 1, 1) := dk_27 (dk_at dksX6_together_1 22 rfl rfl)
theorem dX6_together_46 : decode cX6_together 46 = .ok (.iload_n 3, 1) := dk_29 (dk_at dksX6_together_1 23 rfl rfl)
theorem dX6_together_47 : decode cX6_together 47 = .ok (.invokevirtual 333, 3) := dk_182 1 77 (dk_at dksX6_together_2 0 rfl rfl)
theorem dX6_together_50 : decode cX6_together 50 = .ok (.aload_n 0, 1) := dk_42 (dk_at dksX6_together_2 3 rfl rfl)
theorem dX6_together_51 : decode cX6_together 51 = .ok (.iload_n 2, 1) := dk_28 (dk_at dksX6_together_2 4 rfl rfl)
theorem dX6_together_52 : decode cX6_together 52 = .ok (.iload_n 3, 1) := dk_29 (dk_at dksX6_together_2 5 rfl rfl)
theorem dX6_together_53 : decode cX6_together 53 = .ok (.invokevirtual 333, 3) := dk_182 1 77 (dk_at dksX6_together_2 6 rfl rfl)
theorem dX6_together_56 : decode cX6_together 56 = .ok (.if_icmp .ne 9, 3) := dk_160 0 9 (dk_at dksX6_together_2 9 rfl rfl)
theorem dX6_together_59 : decode cX6_together 59 = .ok (.aload_n 0, 1) := dk_42 (dk_at dksX6_together_2 12 rfl rfl)
theorem dX6_together_60 : decode cX6_together 60 = .ok (.iload_n 3, 1) := dk_29 (dk_at dksX6_together_2 13 rfl rfl)
theorem dX6_together_61 : decode cX6_together 61 = .ok (.invokevirtual 59, 3) := dk_182 0 59 (dk_at dksX6_together_2 14 rfl rfl)
theorem dX6_together_64 : decode cX6_together 64 = .ok (.ireturn, 1) := dk_172 (dk_at dksX6_together_2 17 rfl rfl)
theorem dX6_together_65 : decode cX6_together 65 = .ok (.iinc 3 1, 3) := dk_132 3 1 (dk_at dksX6_together_2 18 rfl rfl)
theorem dX6_together_68 : decode cX6_together 68 = .ok (.goto (-30), 3) := dk_167 255 226 (dk_at dksX6_together_2 21 rfl rfl)
theorem dX6_together_71 : decode cX6_together 71 = .ok (.aload_n 0, 1) := dk_42 (dk_at dksX6_together_3 0 rfl rfl)
theorem dX6_together_72 : decode cX6_together 72 = .ok (.bipush (-2), 2) := dk_16 254 (dk_at dksX6_together_3 1 rfl rfl)
theorem dX6_together_74 : decode cX6_together 74 = .ok (.invokevirtual 59, 3) := dk_182 0 59 (dk_at dksX6_together_3 3 rfl rfl)
theorem dX6_together_77 : decode cX6_together 77 = .ok (.ireturn, 1) := dk_172 (dk_at dksX6_together_3 6 rfl rfl)
abbrev cX6_aimFor : ByteArray := prog_15_method_75_code
def yX6_aimFor : MethodName := ⟨RX6, "aimFor", "(III)I"⟩
def dkwX6_aimFor_3 : List UInt8 := [132, 5, 1, 167, 255, 237, 42, 21, 5, 182, 0, 59, 172]
abbrev dktX6_aimFor_3 : List UInt8 := dkwX6_aimFor_3 ++ []
def dkwX6_aimFor_2 : List UInt8 := [182, 1, 86, 3, 54, 5, 42, 42, 27, 21, 5, 29, 182, 1, 70, 182, 1, 74, 28, 159, 0, 9]
abbrev dktX6_aimFor_2 : List UInt8 := dkwX6_aimFor_2 ++ dktX6_aimFor_3
def dkwX6_aimFor_1 : List UInt8 := [167, 0, 4, 3, 29, 182, 1, 98, 54, 4, 21, 4, 158, 0, 10, 42, 21, 4, 182, 0, 55, 172, 42]
abbrev dktX6_aimFor_1 : List UInt8 := dkwX6_aimFor_1 ++ dktX6_aimFor_2
def dkwX6_aimFor_0 : List UInt8 := [42, 3, 181, 0, 49, 42, 42, 27, 182, 1, 92, 153, 0, 15, 42, 28, 182, 1, 83, 153, 0, 7, 4]
abbrev dktX6_aimFor_0 : List UInt8 := dkwX6_aimFor_0 ++ dktX6_aimFor_1
theorem dksX6_aimFor_0 : cX6_aimFor.data.toList.drop 0 = dktX6_aimFor_0 := by decide +kernel
theorem dksX6_aimFor_1 : cX6_aimFor.data.toList.drop 23 = dktX6_aimFor_1 := dk_seg dksX6_aimFor_0 23 rfl rfl
theorem dksX6_aimFor_2 : cX6_aimFor.data.toList.drop 46 = dktX6_aimFor_2 := dk_seg dksX6_aimFor_1 23 rfl rfl
theorem dksX6_aimFor_3 : cX6_aimFor.data.toList.drop 68 = dktX6_aimFor_3 := dk_seg dksX6_aimFor_2 22 rfl rfl
theorem dX6_aimFor_0 : decode cX6_aimFor 0 = .ok (.aload_n 0, 1) := dk_42 (dk_at dksX6_aimFor_0 0 rfl rfl)
theorem dX6_aimFor_1 : decode cX6_aimFor 1 = .ok (.iconst 0, 1) := dk_3 (dk_at dksX6_aimFor_0 1 rfl rfl)
theorem dX6_aimFor_2 : decode cX6_aimFor 2 = .ok (.putfield 49, 3) := dk_181 0 49 (dk_at dksX6_aimFor_0 2 rfl rfl)
theorem dX6_aimFor_5 : decode cX6_aimFor 5 = .ok (.aload_n 0, 1) := dk_42 (dk_at dksX6_aimFor_0 5 rfl rfl)
theorem dX6_aimFor_6 : decode cX6_aimFor 6 = .ok (.aload_n 0, 1) := dk_42 (dk_at dksX6_aimFor_0 6 rfl rfl)
theorem dX6_aimFor_7 : decode cX6_aimFor 7 = .ok (.iload_n 1, 1) := dk_27 (dk_at dksX6_aimFor_0 7 rfl rfl)
theorem dX6_aimFor_8 : decode cX6_aimFor 8 = .ok (.invokevirtual 348, 3) := dk_182 1 92 (dk_at dksX6_aimFor_0 8 rfl rfl)
theorem dX6_aimFor_11 : decode cX6_aimFor 11 = .ok (.ifCond .eq 15, 3) := dk_153 0 15 (dk_at dksX6_aimFor_0 11 rfl rfl)
theorem dX6_aimFor_14 : decode cX6_aimFor 14 = .ok (.aload_n 0, 1) := dk_42 (dk_at dksX6_aimFor_0 14 rfl rfl)
theorem dX6_aimFor_15 : decode cX6_aimFor 15 = .ok (.iload_n 2, 1) := dk_28 (dk_at dksX6_aimFor_0 15 rfl rfl)
theorem dX6_aimFor_16 : decode cX6_aimFor 16 = .ok (.invokevirtual 339, 3) := dk_182 1 83 (dk_at dksX6_aimFor_0 16 rfl rfl)
theorem dX6_aimFor_19 : decode cX6_aimFor 19 = .ok (.ifCond .eq 7, 3) := dk_153 0 7 (dk_at dksX6_aimFor_0 19 rfl rfl)
theorem dX6_aimFor_22 : decode cX6_aimFor 22 = .ok (.iconst 1, 1) := dk_4 (dk_at dksX6_aimFor_0 22 rfl rfl)
theorem dX6_aimFor_23 : decode cX6_aimFor 23 = .ok (.goto 4, 3) := dk_167 0 4 (dk_at dksX6_aimFor_1 0 rfl rfl)
theorem dX6_aimFor_26 : decode cX6_aimFor 26 = .ok (.iconst 0, 1) := dk_3 (dk_at dksX6_aimFor_1 3 rfl rfl)
theorem dX6_aimFor_27 : decode cX6_aimFor 27 = .ok (.iload_n 3, 1) := dk_29 (dk_at dksX6_aimFor_1 4 rfl rfl)
theorem dX6_aimFor_28 : decode cX6_aimFor 28 = .ok (.invokevirtual 354, 3) := dk_182 1 98 (dk_at dksX6_aimFor_1 5 rfl rfl)
theorem dX6_aimFor_31 : decode cX6_aimFor 31 = .ok (.istore 4, 2) := dk_54 4 (dk_at dksX6_aimFor_1 8 rfl rfl)
theorem dX6_aimFor_33 : decode cX6_aimFor 33 = .ok (.iload 4, 2) := dk_21 4 (dk_at dksX6_aimFor_1 10 rfl rfl)
theorem dX6_aimFor_35 : decode cX6_aimFor 35 = .ok (.ifCond .le 10, 3) := dk_158 0 10 (dk_at dksX6_aimFor_1 12 rfl rfl)
theorem dX6_aimFor_38 : decode cX6_aimFor 38 = .ok (.aload_n 0, 1) := dk_42 (dk_at dksX6_aimFor_1 15 rfl rfl)
theorem dX6_aimFor_39 : decode cX6_aimFor 39 = .ok (.iload 4, 2) := dk_21 4 (dk_at dksX6_aimFor_1 16 rfl rfl)
theorem dX6_aimFor_41 : decode cX6_aimFor 41 = .ok (.invokevirtual 55, 3) := dk_182 0 55 (dk_at dksX6_aimFor_1 18 rfl rfl)
theorem dX6_aimFor_44 : decode cX6_aimFor 44 = .ok (.ireturn, 1) := dk_172 (dk_at dksX6_aimFor_1 21 rfl rfl)
theorem dX6_aimFor_45 : decode cX6_aimFor 45 = .ok (.aload_n 0, 1) := dk_42 (dk_at dksX6_aimFor_1 22 rfl rfl)
theorem dX6_aimFor_46 : decode cX6_aimFor 46 = .ok (.invokevirtual 342, 3) := dk_182 1 86 (dk_at dksX6_aimFor_2 0 rfl rfl)
theorem dX6_aimFor_49 : decode cX6_aimFor 49 = .ok (.iconst 0, 1) := dk_3 (dk_at dksX6_aimFor_2 3 rfl rfl)
theorem dX6_aimFor_50 : decode cX6_aimFor 50 = .ok (.istore 5, 2) := dk_54 5 (dk_at dksX6_aimFor_2 4 rfl rfl)
theorem dX6_aimFor_52 : decode cX6_aimFor 52 = .ok (.aload_n 0, 1) := dk_42 (dk_at dksX6_aimFor_2 6 rfl rfl)
theorem dX6_aimFor_53 : decode cX6_aimFor 53 = .ok (.aload_n 0, 1) := dk_42 (dk_at dksX6_aimFor_2 7 rfl rfl)
theorem dX6_aimFor_54 : decode cX6_aimFor 54 = .ok (.iload_n 1, 1) := dk_27 (dk_at dksX6_aimFor_2 8 rfl rfl)
theorem dX6_aimFor_55 : decode cX6_aimFor 55 = .ok (.iload 5, 2) := dk_21 5 (dk_at dksX6_aimFor_2 9 rfl rfl)
theorem dX6_aimFor_57 : decode cX6_aimFor 57 = .ok (.iload_n 3, 1) := dk_29 (dk_at dksX6_aimFor_2 11 rfl rfl)
theorem dX6_aimFor_58 : decode cX6_aimFor 58 = .ok (.invokevirtual 326, 3) := dk_182 1 70 (dk_at dksX6_aimFor_2 12 rfl rfl)
theorem dX6_aimFor_61 : decode cX6_aimFor 61 = .ok (.invokevirtual 330, 3) := dk_182 1 74 (dk_at dksX6_aimFor_2 15 rfl rfl)
theorem dX6_aimFor_64 : decode cX6_aimFor 64 = .ok (.iload_n 2, 1) := dk_28 (dk_at dksX6_aimFor_2 18 rfl rfl)
theorem dX6_aimFor_65 : decode cX6_aimFor 65 = .ok (.if_icmp .eq 9, 3) := dk_159 0 9 (dk_at dksX6_aimFor_2 19 rfl rfl)
theorem dX6_aimFor_68 : decode cX6_aimFor 68 = .ok (.iinc 5 1, 3) := dk_132 5 1 (dk_at dksX6_aimFor_3 0 rfl rfl)
theorem dX6_aimFor_71 : decode cX6_aimFor 71 = .ok (.goto (-19), 3) := dk_167 255 237 (dk_at dksX6_aimFor_3 3 rfl rfl)
theorem dX6_aimFor_74 : decode cX6_aimFor 74 = .ok (.aload_n 0, 1) := dk_42 (dk_at dksX6_aimFor_3 6 rfl rfl)
theorem dX6_aimFor_75 : decode cX6_aimFor 75 = .ok (.iload 5, 2) := dk_21 5 (dk_at dksX6_aimFor_3 7 rfl rfl)
theorem dX6_aimFor_77 : decode cX6_aimFor 77 = .ok (.invokevirtual 59, 3) := dk_182 0 59 (dk_at dksX6_aimFor_3 9 rfl rfl)
theorem dX6_aimFor_80 : decode cX6_aimFor 80 = .ok (.ireturn, 1) := dk_172 (dk_at dksX6_aimFor_3 12 rfl rfl)
abbrev cX6_aims : ByteArray := prog_15_method_76_code
def yX6_aims : MethodName := ⟨RX6, "aims", "(III)I"⟩
def dkwX6_aims_4 : List UInt8 := [132, 6, 1, 167, 255, 215, 42, 21, 5, 182, 0, 59, 172]
abbrev dktX6_aims_4 : List UInt8 := dkwX6_aims_4 ++ []
def dkwX6_aims_3 : List UInt8 := [42, 27, 21, 6, 29, 182, 1, 70, 182, 1, 74, 28, 160, 0, 7, 4, 167, 0, 4, 3, 96, 54, 5]
abbrev dktX6_aims_3 : List UInt8 := dkwX6_aims_3 ++ dktX6_aims_4
def dkwX6_aims_2 : List UInt8 := [182, 1, 86, 3, 54, 5, 3, 54, 6, 21, 6, 42, 180, 1, 47, 180, 0, 159, 162, 0, 35, 21, 5, 42]
abbrev dktX6_aims_2 : List UInt8 := dkwX6_aims_2 ++ dktX6_aims_3
def dkwX6_aims_1 : List UInt8 := [167, 0, 4, 3, 29, 182, 1, 98, 54, 4, 21, 4, 158, 0, 10, 42, 21, 4, 182, 0, 55, 172, 42]
abbrev dktX6_aims_1 : List UInt8 := dkwX6_aims_1 ++ dktX6_aims_2
def dkwX6_aims_0 : List UInt8 := [42, 3, 181, 0, 49, 42, 42, 27, 182, 1, 92, 153, 0, 15, 42, 28, 182, 1, 83, 153, 0, 7, 4]
abbrev dktX6_aims_0 : List UInt8 := dkwX6_aims_0 ++ dktX6_aims_1
theorem dksX6_aims_0 : cX6_aims.data.toList.drop 0 = dktX6_aims_0 := by decide +kernel
theorem dksX6_aims_1 : cX6_aims.data.toList.drop 23 = dktX6_aims_1 := dk_seg dksX6_aims_0 23 rfl rfl
theorem dksX6_aims_2 : cX6_aims.data.toList.drop 46 = dktX6_aims_2 := dk_seg dksX6_aims_1 23 rfl rfl
theorem dksX6_aims_3 : cX6_aims.data.toList.drop 70 = dktX6_aims_3 := dk_seg dksX6_aims_2 24 rfl rfl
theorem dksX6_aims_4 : cX6_aims.data.toList.drop 93 = dktX6_aims_4 := dk_seg dksX6_aims_3 23 rfl rfl
theorem dX6_aims_0 : decode cX6_aims 0 = .ok (.aload_n 0, 1) := dk_42 (dk_at dksX6_aims_0 0 rfl rfl)
theorem dX6_aims_1 : decode cX6_aims 1 = .ok (.iconst 0, 1) := dk_3 (dk_at dksX6_aims_0 1 rfl rfl)
theorem dX6_aims_2 : decode cX6_aims 2 = .ok (.putfield 49, 3) := dk_181 0 49 (dk_at dksX6_aims_0 2 rfl rfl)
theorem dX6_aims_5 : decode cX6_aims 5 = .ok (.aload_n 0, 1) := dk_42 (dk_at dksX6_aims_0 5 rfl rfl)
theorem dX6_aims_6 : decode cX6_aims 6 = .ok (.aload_n 0, 1) := dk_42 (dk_at dksX6_aims_0 6 rfl rfl)
theorem dX6_aims_7 : decode cX6_aims 7 = .ok (.iload_n 1, 1) := dk_27 (dk_at dksX6_aims_0 7 rfl rfl)
theorem dX6_aims_8 : decode cX6_aims 8 = .ok (.invokevirtual 348, 3) := dk_182 1 92 (dk_at dksX6_aims_0 8 rfl rfl)
theorem dX6_aims_11 : decode cX6_aims 11 = .ok (.ifCond .eq 15, 3) := dk_153 0 15 (dk_at dksX6_aims_0 11 rfl rfl)
theorem dX6_aims_14 : decode cX6_aims 14 = .ok (.aload_n 0, 1) := dk_42 (dk_at dksX6_aims_0 14 rfl rfl)
theorem dX6_aims_15 : decode cX6_aims 15 = .ok (.iload_n 2, 1) := dk_28 (dk_at dksX6_aims_0 15 rfl rfl)
theorem dX6_aims_16 : decode cX6_aims 16 = .ok (.invokevirtual 339, 3) := dk_182 1 83 (dk_at dksX6_aims_0 16 rfl rfl)
theorem dX6_aims_19 : decode cX6_aims 19 = .ok (.ifCond .eq 7, 3) := dk_153 0 7 (dk_at dksX6_aims_0 19 rfl rfl)
theorem dX6_aims_22 : decode cX6_aims 22 = .ok (.iconst 1, 1) := dk_4 (dk_at dksX6_aims_0 22 rfl rfl)
theorem dX6_aims_23 : decode cX6_aims 23 = .ok (.goto 4, 3) := dk_167 0 4 (dk_at dksX6_aims_1 0 rfl rfl)
theorem dX6_aims_26 : decode cX6_aims 26 = .ok (.iconst 0, 1) := dk_3 (dk_at dksX6_aims_1 3 rfl rfl)
theorem dX6_aims_27 : decode cX6_aims 27 = .ok (.iload_n 3, 1) := dk_29 (dk_at dksX6_aims_1 4 rfl rfl)
theorem dX6_aims_28 : decode cX6_aims 28 = .ok (.invokevirtual 354, 3) := dk_182 1 98 (dk_at dksX6_aims_1 5 rfl rfl)
theorem dX6_aims_31 : decode cX6_aims 31 = .ok (.istore 4, 2) := dk_54 4 (dk_at dksX6_aims_1 8 rfl rfl)
theorem dX6_aims_33 : decode cX6_aims 33 = .ok (.iload 4, 2) := dk_21 4 (dk_at dksX6_aims_1 10 rfl rfl)
theorem dX6_aims_35 : decode cX6_aims 35 = .ok (.ifCond .le 10, 3) := dk_158 0 10 (dk_at dksX6_aims_1 12 rfl rfl)
theorem dX6_aims_38 : decode cX6_aims 38 = .ok (.aload_n 0, 1) := dk_42 (dk_at dksX6_aims_1 15 rfl rfl)
theorem dX6_aims_39 : decode cX6_aims 39 = .ok (.iload 4, 2) := dk_21 4 (dk_at dksX6_aims_1 16 rfl rfl)
theorem dX6_aims_41 : decode cX6_aims 41 = .ok (.invokevirtual 55, 3) := dk_182 0 55 (dk_at dksX6_aims_1 18 rfl rfl)
theorem dX6_aims_44 : decode cX6_aims 44 = .ok (.ireturn, 1) := dk_172 (dk_at dksX6_aims_1 21 rfl rfl)
theorem dX6_aims_45 : decode cX6_aims 45 = .ok (.aload_n 0, 1) := dk_42 (dk_at dksX6_aims_1 22 rfl rfl)
theorem dX6_aims_46 : decode cX6_aims 46 = .ok (.invokevirtual 342, 3) := dk_182 1 86 (dk_at dksX6_aims_2 0 rfl rfl)
theorem dX6_aims_49 : decode cX6_aims 49 = .ok (.iconst 0, 1) := dk_3 (dk_at dksX6_aims_2 3 rfl rfl)
theorem dX6_aims_50 : decode cX6_aims 50 = .ok (.istore 5, 2) := dk_54 5 (dk_at dksX6_aims_2 4 rfl rfl)
theorem dX6_aims_52 : decode cX6_aims 52 = .ok (.iconst 0, 1) := dk_3 (dk_at dksX6_aims_2 6 rfl rfl)
theorem dX6_aims_53 : decode cX6_aims 53 = .ok (.istore 6, 2) := dk_54 6 (dk_at dksX6_aims_2 7 rfl rfl)
theorem dX6_aims_55 : decode cX6_aims 55 = .ok (.iload 6, 2) := dk_21 6 (dk_at dksX6_aims_2 9 rfl rfl)
theorem dX6_aims_57 : decode cX6_aims 57 = .ok (.aload_n 0, 1) := dk_42 (dk_at dksX6_aims_2 11 rfl rfl)
theorem dX6_aims_58 : decode cX6_aims 58 = .ok (.getfield 303, 3) := dk_180 1 47 (dk_at dksX6_aims_2 12 rfl rfl)
theorem dX6_aims_61 : decode cX6_aims 61 = .ok (.getfield 159, 3) := dk_180 0 159 (dk_at dksX6_aims_2 15 rfl rfl)
theorem dX6_aims_64 : decode cX6_aims 64 = .ok (.if_icmp .ge 35, 3) := dk_162 0 35 (dk_at dksX6_aims_2 18 rfl rfl)
theorem dX6_aims_67 : decode cX6_aims 67 = .ok (.iload 5, 2) := dk_21 5 (dk_at dksX6_aims_2 21 rfl rfl)
theorem dX6_aims_69 : decode cX6_aims 69 = .ok (.aload_n 0, 1) := dk_42 (dk_at dksX6_aims_2 23 rfl rfl)
theorem dX6_aims_70 : decode cX6_aims 70 = .ok (.aload_n 0, 1) := dk_42 (dk_at dksX6_aims_3 0 rfl rfl)
theorem dX6_aims_71 : decode cX6_aims 71 = .ok (.iload_n 1, 1) := dk_27 (dk_at dksX6_aims_3 1 rfl rfl)
theorem dX6_aims_72 : decode cX6_aims 72 = .ok (.iload 6, 2) := dk_21 6 (dk_at dksX6_aims_3 2 rfl rfl)
theorem dX6_aims_74 : decode cX6_aims 74 = .ok (.iload_n 3, 1) := dk_29 (dk_at dksX6_aims_3 4 rfl rfl)
theorem dX6_aims_75 : decode cX6_aims 75 = .ok (.invokevirtual 326, 3) := dk_182 1 70 (dk_at dksX6_aims_3 5 rfl rfl)
theorem dX6_aims_78 : decode cX6_aims 78 = .ok (.invokevirtual 330, 3) := dk_182 1 74 (dk_at dksX6_aims_3 8 rfl rfl)
theorem dX6_aims_81 : decode cX6_aims 81 = .ok (.iload_n 2, 1) := dk_28 (dk_at dksX6_aims_3 11 rfl rfl)
theorem dX6_aims_82 : decode cX6_aims 82 = .ok (.if_icmp .ne 7, 3) := dk_160 0 7 (dk_at dksX6_aims_3 12 rfl rfl)
theorem dX6_aims_85 : decode cX6_aims 85 = .ok (.iconst 1, 1) := dk_4 (dk_at dksX6_aims_3 15 rfl rfl)
theorem dX6_aims_86 : decode cX6_aims 86 = .ok (.goto 4, 3) := dk_167 0 4 (dk_at dksX6_aims_3 16 rfl rfl)
theorem dX6_aims_89 : decode cX6_aims 89 = .ok (.iconst 0, 1) := dk_3 (dk_at dksX6_aims_3 19 rfl rfl)
theorem dX6_aims_90 : decode cX6_aims 90 = .ok (.iadd, 1) := dk_96 (dk_at dksX6_aims_3 20 rfl rfl)
theorem dX6_aims_91 : decode cX6_aims 91 = .ok (.istore 5, 2) := dk_54 5 (dk_at dksX6_aims_3 21 rfl rfl)
theorem dX6_aims_93 : decode cX6_aims 93 = .ok (.iinc 6 1, 3) := dk_132 6 1 (dk_at dksX6_aims_4 0 rfl rfl)
theorem dX6_aims_96 : decode cX6_aims 96 = .ok (.goto (-41), 3) := dk_167 255 215 (dk_at dksX6_aims_4 3 rfl rfl)
theorem dX6_aims_99 : decode cX6_aims 99 = .ok (.aload_n 0, 1) := dk_42 (dk_at dksX6_aims_4 6 rfl rfl)
theorem dX6_aims_100 : decode cX6_aims 100 = .ok (.iload 5, 2) := dk_21 5 (dk_at dksX6_aims_4 7 rfl rfl)
theorem dX6_aims_102 : decode cX6_aims 102 = .ok (.invokevirtual 59, 3) := dk_182 0 59 (dk_at dksX6_aims_4 9 rfl rfl)
theorem dX6_aims_105 : decode cX6_aims 105 = .ok (.ireturn, 1) := dk_172 (dk_at dksX6_aims_4 12 rfl rfl)
abbrev cX6_mirrorFor : ByteArray := prog_15_method_77_code
def yX6_mirrorFor : MethodName := ⟨RX6, "mirrorFor", "(II)I"⟩
def dkwX6_mirrorFor_3 : List UInt8 := [182, 0, 59, 172, 132, 4, 1, 167, 255, 214, 42, 16, 254, 182, 0, 59, 172]
abbrev dktX6_mirrorFor_3 : List UInt8 := dkwX6_mirrorFor_3 ++ []
def dkwX6_mirrorFor_2 : List UInt8 := [180, 0, 21, 16, 12, 27, 96, 21, 4, 79, 42, 27, 28, 182, 1, 80, 153, 0, 10, 42, 21, 4]
abbrev dktX6_mirrorFor_2 : List UInt8 := dkwX6_mirrorFor_2 ++ dktX6_mirrorFor_3
def dkwX6_mirrorFor_1 : List UInt8 := [182, 0, 55, 172, 42, 182, 1, 86, 3, 54, 4, 21, 4, 42, 180, 1, 47, 180, 0, 159, 162, 0, 36, 42]
abbrev dktX6_mirrorFor_1 : List UInt8 := dkwX6_mirrorFor_1 ++ dktX6_mirrorFor_2
def dkwX6_mirrorFor_0 : List UInt8 := [42, 3, 181, 0, 49, 42, 42, 27, 182, 1, 92, 28, 182, 1, 98, 62, 29, 158, 0, 9, 42, 29]
abbrev dktX6_mirrorFor_0 : List UInt8 := dkwX6_mirrorFor_0 ++ dktX6_mirrorFor_1
theorem dksX6_mirrorFor_0 : cX6_mirrorFor.data.toList.drop 0 = dktX6_mirrorFor_0 := by decide +kernel
theorem dksX6_mirrorFor_1 : cX6_mirrorFor.data.toList.drop 22 = dktX6_mirrorFor_1 := dk_seg dksX6_mirrorFor_0 22 rfl rfl
theorem dksX6_mirrorFor_2 : cX6_mirrorFor.data.toList.drop 46 = dktX6_mirrorFor_2 := dk_seg dksX6_mirrorFor_1 24 rfl rfl
theorem dksX6_mirrorFor_3 : cX6_mirrorFor.data.toList.drop 68 = dktX6_mirrorFor_3 := dk_seg dksX6_mirrorFor_2 22 rfl rfl
theorem dX6_mirrorFor_0 : decode cX6_mirrorFor 0 = .ok (.aload_n 0, 1) := dk_42 (dk_at dksX6_mirrorFor_0 0 rfl rfl)
theorem dX6_mirrorFor_1 : decode cX6_mirrorFor 1 = .ok (.iconst 0, 1) := dk_3 (dk_at dksX6_mirrorFor_0 1 rfl rfl)
theorem dX6_mirrorFor_2 : decode cX6_mirrorFor 2 = .ok (.putfield 49, 3) := dk_181 0 49 (dk_at dksX6_mirrorFor_0 2 rfl rfl)
theorem dX6_mirrorFor_5 : decode cX6_mirrorFor 5 = .ok (.aload_n 0, 1) := dk_42 (dk_at dksX6_mirrorFor_0 5 rfl rfl)
theorem dX6_mirrorFor_6 : decode cX6_mirrorFor 6 = .ok (.aload_n 0, 1) := dk_42 (dk_at dksX6_mirrorFor_0 6 rfl rfl)
theorem dX6_mirrorFor_7 : decode cX6_mirrorFor 7 = .ok (.iload_n 1, 1) := dk_27 (dk_at dksX6_mirrorFor_0 7 rfl rfl)
theorem dX6_mirrorFor_8 : decode cX6_mirrorFor 8 = .ok (.invokevirtual 348, 3) := dk_182 1 92 (dk_at dksX6_mirrorFor_0 8 rfl rfl)
theorem dX6_mirrorFor_11 : decode cX6_mirrorFor 11 = .ok (.iload_n 2, 1) := dk_28 (dk_at dksX6_mirrorFor_0 11 rfl rfl)
theorem dX6_mirrorFor_12 : decode cX6_mirrorFor 12 = .ok (.invokevirtual 354, 3) := dk_182 1 98 (dk_at dksX6_mirrorFor_0 12 rfl rfl)
theorem dX6_mirrorFor_15 : decode cX6_mirrorFor 15 = .ok (.istore_n 3, 1) := dk_62 (dk_at dksX6_mirrorFor_0 15 rfl rfl)
theorem dX6_mirrorFor_16 : decode cX6_mirrorFor 16 = .ok (.iload_n 3, 1) := dk_29 (dk_at dksX6_mirrorFor_0 16 rfl rfl)
theorem dX6_mirrorFor_17 : decode cX6_mirrorFor 17 = .ok (.ifCond .le 9, 3) := dk_158 0 9 (dk_at dksX6_mirrorFor_0 17 rfl rfl)
theorem dX6_mirrorFor_20 : decode cX6_mirrorFor 20 = .ok (.aload_n 0, 1) := dk_42 (dk_at dksX6_mirrorFor_0 20 rfl rfl)
theorem dX6_mirrorFor_21 : decode cX6_mirrorFor 21 = .ok (.iload_n 3, 1) := dk_29 (dk_at dksX6_mirrorFor_0 21 rfl rfl)
theorem dX6_mirrorFor_22 : decode cX6_mirrorFor 22 = .ok (.invokevirtual 55, 3) := dk_182 0 55 (dk_at dksX6_mirrorFor_1 0 rfl rfl)
theorem dX6_mirrorFor_25 : decode cX6_mirrorFor 25 = .ok (.ireturn, 1) := dk_172 (dk_at dksX6_mirrorFor_1 3 rfl rfl)
theorem dX6_mirrorFor_26 : decode cX6_mirrorFor 26 = .ok (.aload_n 0, 1) := dk_42 (dk_at dksX6_mirrorFor_1 4 rfl rfl)
theorem dX6_mirrorFor_27 : decode cX6_mirrorFor 27 = .ok (.invokevirtual 342, 3) := dk_182 1 86 (dk_at dksX6_mirrorFor_1 5 rfl rfl)
theorem dX6_mirrorFor_30 : decode cX6_mirrorFor 30 = .ok (.iconst 0, 1) := dk_3 (dk_at dksX6_mirrorFor_1 8 rfl rfl)
theorem dX6_mirrorFor_31 : decode cX6_mirrorFor 31 = .ok (.istore 4, 2) := dk_54 4 (dk_at dksX6_mirrorFor_1 9 rfl rfl)
theorem dX6_mirrorFor_33 : decode cX6_mirrorFor 33 = .ok (.iload 4, 2) := dk_21 4 (dk_at dksX6_mirrorFor_1 11 rfl rfl)
theorem dX6_mirrorFor_35 : decode cX6_mirrorFor 35 = .ok (.aload_n 0, 1) := dk_42 (dk_at dksX6_mirrorFor_1 13 rfl rfl)
theorem dX6_mirrorFor_36 : decode cX6_mirrorFor 36 = .ok (.getfield 303, 3) := dk_180 1 47 (dk_at dksX6_mirrorFor_1 14 rfl rfl)
theorem dX6_mirrorFor_39 : decode cX6_mirrorFor 39 = .ok (.getfield 159, 3) := dk_180 0 159 (dk_at dksX6_mirrorFor_1 17 rfl rfl)
theorem dX6_mirrorFor_42 : decode cX6_mirrorFor 42 = .ok (.if_icmp .ge 36, 3) := dk_162 0 36 (dk_at dksX6_mirrorFor_1 20 rfl rfl)
theorem dX6_mirrorFor_45 : decode cX6_mirrorFor 45 = .ok (.aload_n 0, 1) := dk_42 (dk_at dksX6_mirrorFor_1 23 rfl rfl)
theorem dX6_mirrorFor_46 : decode cX6_mirrorFor 46 = .ok (.getfield 21, 3) := dk_180 0 21 (dk_at dksX6_mirrorFor_2 0 rfl rfl)
theorem dX6_mirrorFor_49 : decode cX6_mirrorFor 49 = .ok (.bipush 12, 2) := dk_16 12 (dk_at dksX6_mirrorFor_2 3 rfl rfl)
theorem dX6_mirrorFor_51 : decode cX6_mirrorFor 51 = .ok (.iload_n 1, 1) := dk_27 (dk_at dksX6_mirrorFor_2 5 rfl rfl)
theorem dX6_mirrorFor_52 : decode cX6_mirrorFor 52 = .ok (.iadd, 1) := dk_96 (dk_at dksX6_mirrorFor_2 6 rfl rfl)
theorem dX6_mirrorFor_53 : decode cX6_mirrorFor 53 = .ok (.iload 4, 2) := dk_21 4 (dk_at dksX6_mirrorFor_2 7 rfl rfl)
theorem dX6_mirrorFor_55 : decode cX6_mirrorFor 55 = .ok (.iastore, 1) := dk_79 (dk_at dksX6_mirrorFor_2 9 rfl rfl)
theorem dX6_mirrorFor_56 : decode cX6_mirrorFor 56 = .ok (.aload_n 0, 1) := dk_42 (dk_at dksX6_mirrorFor_2 10 rfl rfl)
theorem dX6_mirrorFor_57 : decode cX6_mirrorFor 57 = .ok (.iload_n 1, 1) := dk_27 (dk_at dksX6_mirrorFor_2 11 rfl rfl)
theorem dX6_mirrorFor_58 : decode cX6_mirrorFor 58 = .ok (.iload_n 2, 1) := dk_28 (dk_at dksX6_mirrorFor_2 12 rfl rfl)
theorem dX6_mirrorFor_59 : decode cX6_mirrorFor 59 = .ok (.invokevirtual 336, 3) := dk_182 1 80 (dk_at dksX6_mirrorFor_2 13 rfl rfl)
theorem dX6_mirrorFor_62 : decode cX6_mirrorFor 62 = .ok (.ifCond .eq 10, 3) := dk_153 0 10 (dk_at dksX6_mirrorFor_2 16 rfl rfl)
theorem dX6_mirrorFor_65 : decode cX6_mirrorFor 65 = .ok (.aload_n 0, 1) := dk_42 (dk_at dksX6_mirrorFor_2 19 rfl rfl)
theorem dX6_mirrorFor_66 : decode cX6_mirrorFor 66 = .ok (.iload 4, 2) := dk_21 4 (dk_at dksX6_mirrorFor_2 20 rfl rfl)
theorem dX6_mirrorFor_68 : decode cX6_mirrorFor 68 = .ok (.invokevirtual 59, 3) := dk_182 0 59 (dk_at dksX6_mirrorFor_3 0 rfl rfl)
theorem dX6_mirrorFor_71 : decode cX6_mirrorFor 71 = .ok (.ireturn, 1) := dk_172 (dk_at dksX6_mirrorFor_3 3 rfl rfl)
theorem dX6_mirrorFor_72 : decode cX6_mirrorFor 72 = .ok (.iinc 4 1, 3) := dk_132 4 1 (dk_at dksX6_mirrorFor_3 4 rfl rfl)
theorem dX6_mirrorFor_75 : decode cX6_mirrorFor 75 = .ok (.goto (-42), 3) := dk_167 255 214 (dk_at dksX6_mirrorFor_3 7 rfl rfl)
theorem dX6_mirrorFor_78 : decode cX6_mirrorFor 78 = .ok (.aload_n 0, 1) := dk_42 (dk_at dksX6_mirrorFor_3 10 rfl rfl)
theorem dX6_mirrorFor_79 : decode cX6_mirrorFor 79 = .ok (.bipush (-2), 2) := dk_16 254 (dk_at dksX6_mirrorFor_3 11 rfl rfl)
theorem dX6_mirrorFor_81 : decode cX6_mirrorFor 81 = .ok (.invokevirtual 59, 3) := dk_182 0 59 (dk_at dksX6_mirrorFor_3 13 rfl rfl)
theorem dX6_mirrorFor_84 : decode cX6_mirrorFor 84 = .ok (.ireturn, 1) := dk_172 (dk_at dksX6_mirrorFor_3 16 rfl rfl)
abbrev cX6_mirrorBest : ByteArray := prog_15_method_78_code
def yX6_mirrorBest : MethodName := ⟨RX6, "mirrorBest", "(I)I"⟩
def dkwX6_mirrorBest_4 : List UInt8 := [163, 0, 6, 167, 0, 9, 21, 5, 62, 21, 4, 61, 132, 4, 1, 167, 255, 176, 42, 28, 182, 0, 59, 172]
abbrev dktX6_mirrorBest_4 : List UInt8 := dkwX6_mirrorBest_4 ++ []
def dkwX6_mirrorBest_3 : List UInt8 := [182, 1, 80, 153, 0, 7, 4, 167, 0, 4, 3, 96, 54, 5, 132, 6, 1, 167, 255, 226, 21, 5, 29]
abbrev dktX6_mirrorBest_3 : List UInt8 := dkwX6_mirrorBest_3 ++ dktX6_mirrorBest_4
def dkwX6_mirrorBest_2 : List UInt8 := [27, 96, 21, 4, 79, 3, 54, 5, 3, 54, 6, 21, 6, 16, 100, 162, 0, 29, 21, 5, 42, 27, 21, 6]
abbrev dktX6_mirrorBest_2 : List UInt8 := dkwX6_mirrorBest_2 ++ dktX6_mirrorBest_3
def dkwX6_mirrorBest_1 : List UInt8 := [61, 2, 62, 3, 54, 4, 21, 4, 42, 180, 1, 47, 180, 0, 159, 162, 0, 74, 42, 180, 0, 21, 16, 12]
abbrev dktX6_mirrorBest_1 : List UInt8 := dkwX6_mirrorBest_1 ++ dktX6_mirrorBest_2
def dkwX6_mirrorBest_0 : List UInt8 := [42, 3, 181, 0, 49, 42, 27, 182, 1, 92, 154, 0, 9, 42, 4, 182, 0, 55, 172, 42, 182, 1, 86, 3]
abbrev dktX6_mirrorBest_0 : List UInt8 := dkwX6_mirrorBest_0 ++ dktX6_mirrorBest_1
theorem dksX6_mirrorBest_0 : cX6_mirrorBest.data.toList.drop 0 = dktX6_mirrorBest_0 := by decide +kernel
theorem dksX6_mirrorBest_1 : cX6_mirrorBest.data.toList.drop 24 = dktX6_mirrorBest_1 := dk_seg dksX6_mirrorBest_0 24 rfl rfl
theorem dksX6_mirrorBest_2 : cX6_mirrorBest.data.toList.drop 48 = dktX6_mirrorBest_2 := dk_seg dksX6_mirrorBest_1 24 rfl rfl
theorem dksX6_mirrorBest_3 : cX6_mirrorBest.data.toList.drop 72 = dktX6_mirrorBest_3 := dk_seg dksX6_mirrorBest_2 24 rfl rfl
theorem dksX6_mirrorBest_4 : cX6_mirrorBest.data.toList.drop 95 = dktX6_mirrorBest_4 := dk_seg dksX6_mirrorBest_3 23 rfl rfl
theorem dX6_mirrorBest_0 : decode cX6_mirrorBest 0 = .ok (.aload_n 0, 1) := dk_42 (dk_at dksX6_mirrorBest_0 0 rfl rfl)
theorem dX6_mirrorBest_1 : decode cX6_mirrorBest 1 = .ok (.iconst 0, 1) := dk_3 (dk_at dksX6_mirrorBest_0 1 rfl rfl)
theorem dX6_mirrorBest_2 : decode cX6_mirrorBest 2 = .ok (.putfield 49, 3) := dk_181 0 49 (dk_at dksX6_mirrorBest_0 2 rfl rfl)
theorem dX6_mirrorBest_5 : decode cX6_mirrorBest 5 = .ok (.aload_n 0, 1) := dk_42 (dk_at dksX6_mirrorBest_0 5 rfl rfl)
theorem dX6_mirrorBest_6 : decode cX6_mirrorBest 6 = .ok (.iload_n 1, 1) := dk_27 (dk_at dksX6_mirrorBest_0 6 rfl rfl)
theorem dX6_mirrorBest_7 : decode cX6_mirrorBest 7 = .ok (.invokevirtual 348, 3) := dk_182 1 92 (dk_at dksX6_mirrorBest_0 7 rfl rfl)
theorem dX6_mirrorBest_10 : decode cX6_mirrorBest 10 = .ok (.ifCond .ne 9, 3) := dk_154 0 9 (dk_at dksX6_mirrorBest_0 10 rfl rfl)
theorem dX6_mirrorBest_13 : decode cX6_mirrorBest 13 = .ok (.aload_n 0, 1) := dk_42 (dk_at dksX6_mirrorBest_0 13 rfl rfl)
theorem dX6_mirrorBest_14 : decode cX6_mirrorBest 14 = .ok (.iconst 1, 1) := dk_4 (dk_at dksX6_mirrorBest_0 14 rfl rfl)
theorem dX6_mirrorBest_15 : decode cX6_mirrorBest 15 = .ok (.invokevirtual 55, 3) := dk_182 0 55 (dk_at dksX6_mirrorBest_0 15 rfl rfl)
theorem dX6_mirrorBest_18 : decode cX6_mirrorBest 18 = .ok (.ireturn, 1) := dk_172 (dk_at dksX6_mirrorBest_0 18 rfl rfl)
theorem dX6_mirrorBest_19 : decode cX6_mirrorBest 19 = .ok (.aload_n 0, 1) := dk_42 (dk_at dksX6_mirrorBest_0 19 rfl rfl)
theorem dX6_mirrorBest_20 : decode cX6_mirrorBest 20 = .ok (.invokevirtual 342, 3) := dk_182 1 86 (dk_at dksX6_mirrorBest_0 20 rfl rfl)
theorem dX6_mirrorBest_23 : decode cX6_mirrorBest 23 = .ok (.iconst 0, 1) := dk_3 (dk_at dksX6_mirrorBest_0 23 rfl rfl)
theorem dX6_mirrorBest_24 : decode cX6_mirrorBest 24 = .ok (.istore_n 2, 1) := dk_61 (dk_at dksX6_mirrorBest_1 0 rfl rfl)
theorem dX6_mirrorBest_25 : decode cX6_mirrorBest 25 = .ok (.iconst (-1), 1) := dk_2 (dk_at dksX6_mirrorBest_1 1 rfl rfl)
theorem dX6_mirrorBest_26 : decode cX6_mirrorBest 26 = .ok (.istore_n 3, 1) := dk_62 (dk_at dksX6_mirrorBest_1 2 rfl rfl)
theorem dX6_mirrorBest_27 : decode cX6_mirrorBest 27 = .ok (.iconst 0, 1) := dk_3 (dk_at dksX6_mirrorBest_1 3 rfl rfl)
theorem dX6_mirrorBest_28 : decode cX6_mirrorBest 28 = .ok (.istore 4, 2) := dk_54 4 (dk_at dksX6_mirrorBest_1 4 rfl rfl)
theorem dX6_mirrorBest_30 : decode cX6_mirrorBest 30 = .ok (.iload 4, 2) := dk_21 4 (dk_at dksX6_mirrorBest_1 6 rfl rfl)
theorem dX6_mirrorBest_32 : decode cX6_mirrorBest 32 = .ok (.aload_n 0, 1) := dk_42 (dk_at dksX6_mirrorBest_1 8 rfl rfl)
theorem dX6_mirrorBest_33 : decode cX6_mirrorBest 33 = .ok (.getfield 303, 3) := dk_180 1 47 (dk_at dksX6_mirrorBest_1 9 rfl rfl)
theorem dX6_mirrorBest_36 : decode cX6_mirrorBest 36 = .ok (.getfield 159, 3) := dk_180 0 159 (dk_at dksX6_mirrorBest_1 12 rfl rfl)
theorem dX6_mirrorBest_39 : decode cX6_mirrorBest 39 = .ok (.if_icmp .ge 74, 3) := dk_162 0 74 (dk_at dksX6_mirrorBest_1 15 rfl rfl)
theorem dX6_mirrorBest_42 : decode cX6_mirrorBest 42 = .ok (.aload_n 0, 1) := dk_42 (dk_at dksX6_mirrorBest_1 18 rfl rfl)
theorem dX6_mirrorBest_43 : decode cX6_mirrorBest 43 = .ok (.getfield 21, 3) := dk_180 0 21 (dk_at dksX6_mirrorBest_1 19 rfl rfl)
theorem dX6_mirrorBest_46 : decode cX6_mirrorBest 46 = .ok (.bipush 12, 2) := dk_16 12 (dk_at dksX6_mirrorBest_1 22 rfl rfl)
theorem dX6_mirrorBest_48 : decode cX6_mirrorBest 48 = .ok (.iload_n 1, 1) := dk_27 (dk_at dksX6_mirrorBest_2 0 rfl rfl)
theorem dX6_mirrorBest_49 : decode cX6_mirrorBest 49 = .ok (.iadd, 1) := dk_96 (dk_at dksX6_mirrorBest_2 1 rfl rfl)
theorem dX6_mirrorBest_50 : decode cX6_mirrorBest 50 = .ok (.iload 4, 2) := dk_21 4 (dk_at dksX6_mirrorBest_2 2 rfl rfl)
theorem dX6_mirrorBest_52 : decode cX6_mirrorBest 52 = .ok (.iastore, 1) := dk_79 (dk_at dksX6_mirrorBest_2 4 rfl rfl)
theorem dX6_mirrorBest_53 : decode cX6_mirrorBest 53 = .ok (.iconst 0, 1) := dk_3 (dk_at dksX6_mirrorBest_2 5 rfl rfl)
theorem dX6_mirrorBest_54 : decode cX6_mirrorBest 54 = .ok (.istore 5, 2) := dk_54 5 (dk_at dksX6_mirrorBest_2 6 rfl rfl)
theorem dX6_mirrorBest_56 : decode cX6_mirrorBest 56 = .ok (.iconst 0, 1) := dk_3 (dk_at dksX6_mirrorBest_2 8 rfl rfl)
theorem dX6_mirrorBest_57 : decode cX6_mirrorBest 57 = .ok (.istore 6, 2) := dk_54 6 (dk_at dksX6_mirrorBest_2 9 rfl rfl)
theorem dX6_mirrorBest_59 : decode cX6_mirrorBest 59 = .ok (.iload 6, 2) := dk_21 6 (dk_at dksX6_mirrorBest_2 11 rfl rfl)
theorem dX6_mirrorBest_61 : decode cX6_mirrorBest 61 = .ok (.bipush 100, 2) := dk_16 100 (dk_at dksX6_mirrorBest_2 13 rfl rfl)
theorem dX6_mirrorBest_63 : decode cX6_mirrorBest 63 = .ok (.if_icmp .ge 29, 3) := dk_162 0 29 (dk_at dksX6_mirrorBest_2 15 rfl rfl)
theorem dX6_mirrorBest_66 : decode cX6_mirrorBest 66 = .ok (.iload 5, 2) := dk_21 5 (dk_at dksX6_mirrorBest_2 18 rfl rfl)
theorem dX6_mirrorBest_68 : decode cX6_mirrorBest 68 = .ok (.aload_n 0, 1) := dk_42 (dk_at dksX6_mirrorBest_2 20 rfl rfl)
theorem dX6_mirrorBest_69 : decode cX6_mirrorBest 69 = .ok (.iload_n 1, 1) := dk_27 (dk_at dksX6_mirrorBest_2 21 rfl rfl)
theorem dX6_mirrorBest_70 : decode cX6_mirrorBest 70 = .ok (.iload 6, 2) := dk_21 6 (dk_at dksX6_mirrorBest_2 22 rfl rfl)
theorem dX6_mirrorBest_72 : decode cX6_mirrorBest 72 = .ok (.invokevirtual 336, 3) := dk_182 1 80 (dk_at dksX6_mirrorBest_3 0 rfl rfl)
theorem dX6_mirrorBest_75 : decode cX6_mirrorBest 75 = .ok (.ifCond .eq 7, 3) := dk_153 0 7 (dk_at dksX6_mirrorBest_3 3 rfl rfl)
theorem dX6_mirrorBest_78 : decode cX6_mirrorBest 78 = .ok (.iconst 1, 1) := dk_4 (dk_at dksX6_mirrorBest_3 6 rfl rfl)
theorem dX6_mirrorBest_79 : decode cX6_mirrorBest 79 = .ok (.goto 4, 3) := dk_167 0 4 (dk_at dksX6_mirrorBest_3 7 rfl rfl)
theorem dX6_mirrorBest_82 : decode cX6_mirrorBest 82 = .ok (.iconst 0, 1) := dk_3 (dk_at dksX6_mirrorBest_3 10 rfl rfl)
theorem dX6_mirrorBest_83 : decode cX6_mirrorBest 83 = .ok (.iadd, 1) := dk_96 (dk_at dksX6_mirrorBest_3 11 rfl rfl)
theorem dX6_mirrorBest_84 : decode cX6_mirrorBest 84 = .ok (.istore 5, 2) := dk_54 5 (dk_at dksX6_mirrorBest_3 12 rfl rfl)
theorem dX6_mirrorBest_86 : decode cX6_mirrorBest 86 = .ok (.iinc 6 1, 3) := dk_132 6 1 (dk_at dksX6_mirrorBest_3 14 rfl rfl)
theorem dX6_mirrorBest_89 : decode cX6_mirrorBest 89 = .ok (.goto (-30), 3) := dk_167 255 226 (dk_at dksX6_mirrorBest_3 17 rfl rfl)
theorem dX6_mirrorBest_92 : decode cX6_mirrorBest 92 = .ok (.iload 5, 2) := dk_21 5 (dk_at dksX6_mirrorBest_3 20 rfl rfl)
theorem dX6_mirrorBest_94 : decode cX6_mirrorBest 94 = .ok (.iload_n 3, 1) := dk_29 (dk_at dksX6_mirrorBest_3 22 rfl rfl)
theorem dX6_mirrorBest_95 : decode cX6_mirrorBest 95 = .ok (.if_icmp .gt 6, 3) := dk_163 0 6 (dk_at dksX6_mirrorBest_4 0 rfl rfl)
theorem dX6_mirrorBest_98 : decode cX6_mirrorBest 98 = .ok (.goto 9, 3) := dk_167 0 9 (dk_at dksX6_mirrorBest_4 3 rfl rfl)
theorem dX6_mirrorBest_101 : decode cX6_mirrorBest 101 = .ok (.iload 5, 2) := dk_21 5 (dk_at dksX6_mirrorBest_4 6 rfl rfl)
theorem dX6_mirrorBest_103 : decode cX6_mirrorBest 103 = .ok (.istore_n 3, 1) := dk_62 (dk_at dksX6_mirrorBest_4 8 rfl rfl)
theorem dX6_mirrorBest_104 : decode cX6_mirrorBest 104 = .ok (.iload 4, 2) := dk_21 4 (dk_at dksX6_mirrorBest_4 9 rfl rfl)
theorem dX6_mirrorBest_106 : decode cX6_mirrorBest 106 = .ok (.istore_n 2, 1) := dk_61 (dk_at dksX6_mirrorBest_4 11 rfl rfl)
theorem dX6_mirrorBest_107 : decode cX6_mirrorBest 107 = .ok (.iinc 4 1, 3) := dk_132 4 1 (dk_at dksX6_mirrorBest_4 12 rfl rfl)
theorem dX6_mirrorBest_110 : decode cX6_mirrorBest 110 = .ok (.goto (-80), 3) := dk_167 255 176 (dk_at dksX6_mirrorBest_4 15 rfl rfl)
theorem dX6_mirrorBest_113 : decode cX6_mirrorBest 113 = .ok (.aload_n 0, 1) := dk_42 (dk_at dksX6_mirrorBest_4 18 rfl rfl)
theorem dX6_mirrorBest_114 : decode cX6_mirrorBest 114 = .ok (.iload_n 2, 1) := dk_28 (dk_at dksX6_mirrorBest_4 19 rfl rfl)
theorem dX6_mirrorBest_115 : decode cX6_mirrorBest 115 = .ok (.invokevirtual 59, 3) := dk_182 0 59 (dk_at dksX6_mirrorBest_4 20 rfl rfl)
theorem dX6_mirrorBest_118 : decode cX6_mirrorBest 118 = .ok (.ireturn, 1) := dk_172 (dk_at dksX6_mirrorBest_4 23 rfl rfl)
abbrev cX6_slipFor : ByteArray := prog_15_method_79_code
def yX6_slipFor : MethodName := ⟨RX6, "slipFor", "(II)I"⟩
def dkwX6_slipFor_3 : List UInt8 := [167, 255, 219, 42, 16, 254, 182, 0, 59, 172]
abbrev dktX6_slipFor_3 : List UInt8 := dkwX6_slipFor_3 ++ []
def dkwX6_slipFor_2 : List UInt8 := [27, 96, 21, 4, 79, 42, 27, 28, 182, 1, 80, 153, 0, 10, 42, 21, 4, 182, 0, 59, 172, 132, 4, 1]
abbrev dktX6_slipFor_2 : List UInt8 := dkwX6_slipFor_2 ++ dktX6_slipFor_3
def dkwX6_slipFor_1 : List UInt8 := [182, 0, 55, 172, 42, 182, 1, 86, 3, 54, 4, 21, 4, 16, 39, 163, 0, 36, 42, 180, 0, 21, 16, 6]
abbrev dktX6_slipFor_1 : List UInt8 := dkwX6_slipFor_1 ++ dktX6_slipFor_2
def dkwX6_slipFor_0 : List UInt8 := [42, 3, 181, 0, 49, 42, 42, 27, 182, 1, 92, 28, 182, 1, 98, 62, 29, 158, 0, 9, 42, 29]
abbrev dktX6_slipFor_0 : List UInt8 := dkwX6_slipFor_0 ++ dktX6_slipFor_1
theorem dksX6_slipFor_0 : cX6_slipFor.data.toList.drop 0 = dktX6_slipFor_0 := by decide +kernel
theorem dksX6_slipFor_1 : cX6_slipFor.data.toList.drop 22 = dktX6_slipFor_1 := dk_seg dksX6_slipFor_0 22 rfl rfl
theorem dksX6_slipFor_2 : cX6_slipFor.data.toList.drop 46 = dktX6_slipFor_2 := dk_seg dksX6_slipFor_1 24 rfl rfl
theorem dksX6_slipFor_3 : cX6_slipFor.data.toList.drop 70 = dktX6_slipFor_3 := dk_seg dksX6_slipFor_2 24 rfl rfl
theorem dX6_slipFor_0 : decode cX6_slipFor 0 = .ok (.aload_n 0, 1) := dk_42 (dk_at dksX6_slipFor_0 0 rfl rfl)
theorem dX6_slipFor_1 : decode cX6_slipFor 1 = .ok (.iconst 0, 1) := dk_3 (dk_at dksX6_slipFor_0 1 rfl rfl)
theorem dX6_slipFor_2 : decode cX6_slipFor 2 = .ok (.putfield 49, 3) := dk_181 0 49 (dk_at dksX6_slipFor_0 2 rfl rfl)
theorem dX6_slipFor_5 : decode cX6_slipFor 5 = .ok (.aload_n 0, 1) := dk_42 (dk_at dksX6_slipFor_0 5 rfl rfl)
theorem dX6_slipFor_6 : decode cX6_slipFor 6 = .ok (.aload_n 0, 1) := dk_42 (dk_at dksX6_slipFor_0 6 rfl rfl)
theorem dX6_slipFor_7 : decode cX6_slipFor 7 = .ok (.iload_n 1, 1) := dk_27 (dk_at dksX6_slipFor_0 7 rfl rfl)
theorem dX6_slipFor_8 : decode cX6_slipFor 8 = .ok (.invokevirtual 348, 3) := dk_182 1 92 (dk_at dksX6_slipFor_0 8 rfl rfl)
theorem dX6_slipFor_11 : decode cX6_slipFor 11 = .ok (.iload_n 2, 1) := dk_28 (dk_at dksX6_slipFor_0 11 rfl rfl)
theorem dX6_slipFor_12 : decode cX6_slipFor 12 = .ok (.invokevirtual 354, 3) := dk_182 1 98 (dk_at dksX6_slipFor_0 12 rfl rfl)
theorem dX6_slipFor_15 : decode cX6_slipFor 15 = .ok (.istore_n 3, 1) := dk_62 (dk_at dksX6_slipFor_0 15 rfl rfl)
theorem dX6_slipFor_16 : decode cX6_slipFor 16 = .ok (.iload_n 3, 1) := dk_29 (dk_at dksX6_slipFor_0 16 rfl rfl)
theorem dX6_slipFor_17 : decode cX6_slipFor 17 = .ok (.ifCond .le 9, 3) := dk_158 0 9 (dk_at dksX6_slipFor_0 17 rfl rfl)
theorem dX6_slipFor_20 : decode cX6_slipFor 20 = .ok (.aload_n 0, 1) := dk_42 (dk_at dksX6_slipFor_0 20 rfl rfl)
theorem dX6_slipFor_21 : decode cX6_slipFor 21 = .ok (.iload_n 3, 1) := dk_29 (dk_at dksX6_slipFor_0 21 rfl rfl)
theorem dX6_slipFor_22 : decode cX6_slipFor 22 = .ok (.invokevirtual 55, 3) := dk_182 0 55 (dk_at dksX6_slipFor_1 0 rfl rfl)
theorem dX6_slipFor_25 : decode cX6_slipFor 25 = .ok (.ireturn, 1) := dk_172 (dk_at dksX6_slipFor_1 3 rfl rfl)
theorem dX6_slipFor_26 : decode cX6_slipFor 26 = .ok (.aload_n 0, 1) := dk_42 (dk_at dksX6_slipFor_1 4 rfl rfl)
theorem dX6_slipFor_27 : decode cX6_slipFor 27 = .ok (.invokevirtual 342, 3) := dk_182 1 86 (dk_at dksX6_slipFor_1 5 rfl rfl)
theorem dX6_slipFor_30 : decode cX6_slipFor 30 = .ok (.iconst 0, 1) := dk_3 (dk_at dksX6_slipFor_1 8 rfl rfl)
theorem dX6_slipFor_31 : decode cX6_slipFor 31 = .ok (.istore 4, 2) := dk_54 4 (dk_at dksX6_slipFor_1 9 rfl rfl)
theorem dX6_slipFor_33 : decode cX6_slipFor 33 = .ok (.iload 4, 2) := dk_21 4 (dk_at dksX6_slipFor_1 11 rfl rfl)
theorem dX6_slipFor_35 : decode cX6_slipFor 35 = .ok (.bipush 39, 2) := dk_16 39 (dk_at dksX6_slipFor_1 13 rfl rfl)
theorem dX6_slipFor_37 : decode cX6_slipFor 37 = .ok (.if_icmp .gt 36, 3) := dk_163 0 36 (dk_at dksX6_slipFor_1 15 rfl rfl)
theorem dX6_slipFor_40 : decode cX6_slipFor 40 = .ok (.aload_n 0, 1) := dk_42 (dk_at dksX6_slipFor_1 18 rfl rfl)
theorem dX6_slipFor_41 : decode cX6_slipFor 41 = .ok (.getfield 21, 3) := dk_180 0 21 (dk_at dksX6_slipFor_1 19 rfl rfl)
theorem dX6_slipFor_44 : decode cX6_slipFor 44 = .ok (.bipush 6, 2) := dk_16 6 (dk_at dksX6_slipFor_1 22 rfl rfl)
theorem dX6_slipFor_46 : decode cX6_slipFor 46 = .ok (.iload_n 1, 1) := dk_27 (dk_at dksX6_slipFor_2 0 rfl rfl)
theorem dX6_slipFor_47 : decode cX6_slipFor 47 = .ok (.iadd, 1) := dk_96 (dk_at dksX6_slipFor_2 1 rfl rfl)
theorem dX6_slipFor_48 : decode cX6_slipFor 48 = .ok (.iload 4, 2) := dk_21 4 (dk_at dksX6_slipFor_2 2 rfl rfl)
theorem dX6_slipFor_50 : decode cX6_slipFor 50 = .ok (.iastore, 1) := dk_79 (dk_at dksX6_slipFor_2 4 rfl rfl)
theorem dX6_slipFor_51 : decode cX6_slipFor 51 = .ok (.aload_n 0, 1) := dk_42 (dk_at dksX6_slipFor_2 5 rfl rfl)
theorem dX6_slipFor_52 : decode cX6_slipFor 52 = .ok (.iload_n 1, 1) := dk_27 (dk_at dksX6_slipFor_2 6 rfl rfl)
theorem dX6_slipFor_53 : decode cX6_slipFor 53 = .ok (.iload_n 2, 1) := dk_28 (dk_at dksX6_slipFor_2 7 rfl rfl)
theorem dX6_slipFor_54 : decode cX6_slipFor 54 = .ok (.invokevirtual 336, 3) := dk_182 1 80 (dk_at dksX6_slipFor_2 8 rfl rfl)
theorem dX6_slipFor_57 : decode cX6_slipFor 57 = .ok (.ifCond .eq 10, 3) := dk_153 0 10 (dk_at dksX6_slipFor_2 11 rfl rfl)
theorem dX6_slipFor_60 : decode cX6_slipFor 60 = .ok (.aload_n 0, 1) := dk_42 (dk_at dksX6_slipFor_2 14 rfl rfl)
theorem dX6_slipFor_61 : decode cX6_slipFor 61 = .ok (.iload 4, 2) := dk_21 4 (dk_at dksX6_slipFor_2 15 rfl rfl)
theorem dX6_slipFor_63 : decode cX6_slipFor 63 = .ok (.invokevirtual 59, 3) := dk_182 0 59 (dk_at dksX6_slipFor_2 17 rfl rfl)
theorem dX6_slipFor_66 : decode cX6_slipFor 66 = .ok (.ireturn, 1) := dk_172 (dk_at dksX6_slipFor_2 20 rfl rfl)
theorem dX6_slipFor_67 : decode cX6_slipFor 67 = .ok (.iinc 4 1, 3) := dk_132 4 1 (dk_at dksX6_slipFor_2 21 rfl rfl)
theorem dX6_slipFor_70 : decode cX6_slipFor 70 = .ok (.goto (-37), 3) := dk_167 255 219 (dk_at dksX6_slipFor_3 0 rfl rfl)
theorem dX6_slipFor_73 : decode cX6_slipFor 73 = .ok (.aload_n 0, 1) := dk_42 (dk_at dksX6_slipFor_3 3 rfl rfl)
theorem dX6_slipFor_74 : decode cX6_slipFor 74 = .ok (.bipush (-2), 2) := dk_16 254 (dk_at dksX6_slipFor_3 4 rfl rfl)
theorem dX6_slipFor_76 : decode cX6_slipFor 76 = .ok (.invokevirtual 59, 3) := dk_182 0 59 (dk_at dksX6_slipFor_3 6 rfl rfl)
theorem dX6_slipFor_79 : decode cX6_slipFor 79 = .ok (.ireturn, 1) := dk_172 (dk_at dksX6_slipFor_3 9 rfl rfl)
abbrev cX6_seat : ByteArray := prog_15_method_83_code
def yX6_seat : MethodName := ⟨RX6, "seat", "(I)I"⟩
def dkwX6_seat_1 : List UInt8 := [158, 0, 9, 42, 28, 182, 0, 55, 172, 42, 27, 182, 1, 120, 42, 42, 180, 1, 114, 182, 0, 59, 172]
abbrev dktX6_seat_1 : List UInt8 := dkwX6_seat_1 ++ []
def dkwX6_seat_0 : List UInt8 := [42, 3, 181, 0, 49, 42, 42, 180, 1, 47, 198, 0, 7, 4, 167, 0, 4, 3, 27, 182, 1, 98, 61, 28]
abbrev dktX6_seat_0 : List UInt8 := dkwX6_seat_0 ++ dktX6_seat_1
theorem dksX6_seat_0 : cX6_seat.data.toList.drop 0 = dktX6_seat_0 := by decide +kernel
theorem dksX6_seat_1 : cX6_seat.data.toList.drop 24 = dktX6_seat_1 := dk_seg dksX6_seat_0 24 rfl rfl
theorem dX6_seat_0 : decode cX6_seat 0 = .ok (.aload_n 0, 1) := dk_42 (dk_at dksX6_seat_0 0 rfl rfl)
theorem dX6_seat_1 : decode cX6_seat 1 = .ok (.iconst 0, 1) := dk_3 (dk_at dksX6_seat_0 1 rfl rfl)
theorem dX6_seat_2 : decode cX6_seat 2 = .ok (.putfield 49, 3) := dk_181 0 49 (dk_at dksX6_seat_0 2 rfl rfl)
theorem dX6_seat_5 : decode cX6_seat 5 = .ok (.aload_n 0, 1) := dk_42 (dk_at dksX6_seat_0 5 rfl rfl)
theorem dX6_seat_6 : decode cX6_seat 6 = .ok (.aload_n 0, 1) := dk_42 (dk_at dksX6_seat_0 6 rfl rfl)
theorem dX6_seat_7 : decode cX6_seat 7 = .ok (.getfield 303, 3) := dk_180 1 47 (dk_at dksX6_seat_0 7 rfl rfl)
theorem dX6_seat_10 : decode cX6_seat 10 = .ok (.ifnull 7, 3) := dk_198 0 7 (dk_at dksX6_seat_0 10 rfl rfl)
theorem dX6_seat_13 : decode cX6_seat 13 = .ok (.iconst 1, 1) := dk_4 (dk_at dksX6_seat_0 13 rfl rfl)
theorem dX6_seat_14 : decode cX6_seat 14 = .ok (.goto 4, 3) := dk_167 0 4 (dk_at dksX6_seat_0 14 rfl rfl)
theorem dX6_seat_17 : decode cX6_seat 17 = .ok (.iconst 0, 1) := dk_3 (dk_at dksX6_seat_0 17 rfl rfl)
theorem dX6_seat_18 : decode cX6_seat 18 = .ok (.iload_n 1, 1) := dk_27 (dk_at dksX6_seat_0 18 rfl rfl)
theorem dX6_seat_19 : decode cX6_seat 19 = .ok (.invokevirtual 354, 3) := dk_182 1 98 (dk_at dksX6_seat_0 19 rfl rfl)
theorem dX6_seat_22 : decode cX6_seat 22 = .ok (.istore_n 2, 1) := dk_61 (dk_at dksX6_seat_0 22 rfl rfl)
theorem dX6_seat_23 : decode cX6_seat 23 = .ok (.iload_n 2, 1) := dk_28 (dk_at dksX6_seat_0 23 rfl rfl)
theorem dX6_seat_24 : decode cX6_seat 24 = .ok (.ifCond .le 9, 3) := dk_158 0 9 (dk_at dksX6_seat_1 0 rfl rfl)
theorem dX6_seat_27 : decode cX6_seat 27 = .ok (.aload_n 0, 1) := dk_42 (dk_at dksX6_seat_1 3 rfl rfl)
theorem dX6_seat_28 : decode cX6_seat 28 = .ok (.iload_n 2, 1) := dk_28 (dk_at dksX6_seat_1 4 rfl rfl)
theorem dX6_seat_29 : decode cX6_seat 29 = .ok (.invokevirtual 55, 3) := dk_182 0 55 (dk_at dksX6_seat_1 5 rfl rfl)
theorem dX6_seat_32 : decode cX6_seat 32 = .ok (.ireturn, 1) := dk_172 (dk_at dksX6_seat_1 8 rfl rfl)
theorem dX6_seat_33 : decode cX6_seat 33 = .ok (.aload_n 0, 1) := dk_42 (dk_at dksX6_seat_1 9 rfl rfl)
theorem dX6_seat_34 : decode cX6_seat 34 = .ok (.iload_n 1, 1) := dk_27 (dk_at dksX6_seat_1 10 rfl rfl)
theorem dX6_seat_35 : decode cX6_seat 35 = .ok (.invokevirtual 376, 3) := dk_182 1 120 (dk_at dksX6_seat_1 11 rfl rfl)
theorem dX6_seat_38 : decode cX6_seat 38 = .ok (.aload_n 0, 1) := dk_42 (dk_at dksX6_seat_1 14 rfl rfl)
theorem dX6_seat_39 : decode cX6_seat 39 = .ok (.aload_n 0, 1) := dk_42 (dk_at dksX6_seat_1 15 rfl rfl)
theorem dX6_seat_40 : decode cX6_seat 40 = .ok (.getfield 370, 3) := dk_180 1 114 (dk_at dksX6_seat_1 16 rfl rfl)
theorem dX6_seat_43 : decode cX6_seat 43 = .ok (.invokevirtual 59, 3) := dk_182 0 59 (dk_at dksX6_seat_1 19 rfl rfl)
theorem dX6_seat_46 : decode cX6_seat 46 = .ok (.ireturn, 1) := dk_172 (dk_at dksX6_seat_1 22 rfl rfl)
abbrev cX6_seating : ByteArray := prog_15_method_82_code
def yX6_seating : MethodName := ⟨RX6, "seating", "(I)V"⟩
def dkwX6_seating_5 : List UInt8 := [167, 255, 180, 177]
abbrev dktX6_seating_5 : List UInt8 := dkwX6_seating_5 ++ []
def dkwX6_seating_4 : List UInt8 := [42, 180, 0, 33, 21, 5, 42, 180, 0, 21, 21, 5, 46, 79, 132, 5, 1, 167, 255, 227, 132, 3, 1]
abbrev dktX6_seating_4 : List UInt8 := dkwX6_seating_4 ++ dktX6_seating_5
def dkwX6_seating_3 : List UInt8 := [167, 0, 44, 42, 21, 4, 181, 1, 114, 3, 54, 5, 21, 5, 42, 180, 1, 47, 180, 0, 193, 162, 0, 23]
abbrev dktX6_seating_3 : List UInt8 := dkwX6_seating_3 ++ dktX6_seating_4
def dkwX6_seating_2 : List UInt8 := [29, 182, 1, 117, 42, 27, 182, 1, 102, 184, 1, 105, 54, 4, 21, 4, 42, 180, 1, 114, 163, 0, 6]
abbrev dktX6_seating_2 : List UInt8 := dkwX6_seating_2 ++ dktX6_seating_3
def dkwX6_seating_1 : List UInt8 := [180, 0, 193, 163, 0, 13, 28, 29, 104, 61, 132, 3, 1, 167, 255, 238, 3, 62, 29, 28, 162, 0, 77, 42]
abbrev dktX6_seating_1 : List UInt8 := dkwX6_seating_1 ++ dktX6_seating_2
def dkwX6_seating_0 : List UInt8 := [42, 182, 1, 86, 42, 182, 1, 111, 4, 61, 42, 2, 181, 1, 114, 5, 62, 29, 42, 180, 1, 47]
abbrev dktX6_seating_0 : List UInt8 := dkwX6_seating_0 ++ dktX6_seating_1
theorem dksX6_seating_0 : cX6_seating.data.toList.drop 0 = dktX6_seating_0 := by decide +kernel
theorem dksX6_seating_1 : cX6_seating.data.toList.drop 22 = dktX6_seating_1 := dk_seg dksX6_seating_0 22 rfl rfl
theorem dksX6_seating_2 : cX6_seating.data.toList.drop 46 = dktX6_seating_2 := dk_seg dksX6_seating_1 24 rfl rfl
theorem dksX6_seating_3 : cX6_seating.data.toList.drop 69 = dktX6_seating_3 := dk_seg dksX6_seating_2 23 rfl rfl
theorem dksX6_seating_4 : cX6_seating.data.toList.drop 93 = dktX6_seating_4 := dk_seg dksX6_seating_3 24 rfl rfl
theorem dksX6_seating_5 : cX6_seating.data.toList.drop 116 = dktX6_seating_5 := dk_seg dksX6_seating_4 23 rfl rfl
theorem dX6_seating_0 : decode cX6_seating 0 = .ok (.aload_n 0, 1) := dk_42 (dk_at dksX6_seating_0 0 rfl rfl)
theorem dX6_seating_1 : decode cX6_seating 1 = .ok (.invokevirtual 342, 3) := dk_182 1 86 (dk_at dksX6_seating_0 1 rfl rfl)
theorem dX6_seating_4 : decode cX6_seating 4 = .ok (.aload_n 0, 1) := dk_42 (dk_at dksX6_seating_0 4 rfl rfl)
theorem dX6_seating_5 : decode cX6_seating 5 = .ok (.invokevirtual 367, 3) := dk_182 1 111 (dk_at dksX6_seating_0 5 rfl rfl)
theorem dX6_seating_8 : decode cX6_seating 8 = .ok (.iconst 1, 1) := dk_4 (dk_at dksX6_seating_0 8 rfl rfl)
theorem dX6_seating_9 : decode cX6_seating 9 = .ok (.istore_n 2, 1) := dk_61 (dk_at dksX6_seating_0 9 rfl rfl)
theorem dX6_seating_10 : decode cX6_seating 10 = .ok (.aload_n 0, 1) := dk_42 (dk_at dksX6_seating_0 10 rfl rfl)
theorem dX6_seating_11 : decode cX6_seating 11 = .ok (.iconst (-1), 1) := dk_2 (dk_at dksX6_seating_0 11 rfl rfl)
theorem dX6_seating_12 : decode cX6_seating 12 = .ok (.putfield 370, 3) := dk_181 1 114 (dk_at dksX6_seating_0 12 rfl rfl)
theorem dX6_seating_15 : decode cX6_seating 15 = .ok (.iconst 2, 1) := dk_5 (dk_at dksX6_seating_0 15 rfl rfl)
theorem dX6_seating_16 : decode cX6_seating 16 = .ok (.istore_n 3, 1) := dk_62 (dk_at dksX6_seating_0 16 rfl rfl)
theorem dX6_seating_17 : decode cX6_seating 17 = .ok (.iload_n 3, 1) := dk_29 (dk_at dksX6_seating_0 17 rfl rfl)
theorem dX6_seating_18 : decode cX6_seating 18 = .ok (.aload_n 0, 1) := dk_42 (dk_at dksX6_seating_0 18 rfl rfl)
theorem dX6_seating_19 : decode cX6_seating 19 = .ok (.getfield 303, 3) := dk_180 1 47 (dk_at dksX6_seating_0 19 rfl rfl)
theorem dX6_seating_22 : decode cX6_seating 22 = .ok (.getfield 193, 3) := dk_180 0 193 (dk_at dksX6_seating_1 0 rfl rfl)
theorem dX6_seating_25 : decode cX6_seating 25 = .ok (.if_icmp .gt 13, 3) := dk_163 0 13 (dk_at dksX6_seating_1 3 rfl rfl)
theorem dX6_seating_28 : decode cX6_seating 28 = .ok (.iload_n 2, 1) := dk_28 (dk_at dksX6_seating_1 6 rfl rfl)
theorem dX6_seating_29 : decode cX6_seating 29 = .ok (.iload_n 3, 1) := dk_29 (dk_at dksX6_seating_1 7 rfl rfl)
theorem dX6_seating_30 : decode cX6_seating 30 = .ok (.imul, 1) := dk_104 (dk_at dksX6_seating_1 8 rfl rfl)
theorem dX6_seating_31 : decode cX6_seating 31 = .ok (.istore_n 2, 1) := dk_61 (dk_at dksX6_seating_1 9 rfl rfl)
theorem dX6_seating_32 : decode cX6_seating 32 = .ok (.iinc 3 1, 3) := dk_132 3 1 (dk_at dksX6_seating_1 10 rfl rfl)
theorem dX6_seating_35 : decode cX6_seating 35 = .ok (.goto (-18), 3) := dk_167 255 238 (dk_at dksX6_seating_1 13 rfl rfl)
theorem dX6_seating_38 : decode cX6_seating 38 = .ok (.iconst 0, 1) := dk_3 (dk_at dksX6_seating_1 16 rfl rfl)
theorem dX6_seating_39 : decode cX6_seating 39 = .ok (.istore_n 3, 1) := dk_62 (dk_at dksX6_seating_1 17 rfl rfl)
theorem dX6_seating_40 : decode cX6_seating 40 = .ok (.iload_n 3, 1) := dk_29 (dk_at dksX6_seating_1 18 rfl rfl)
theorem dX6_seating_41 : decode cX6_seating 41 = .ok (.iload_n 2, 1) := dk_28 (dk_at dksX6_seating_1 19 rfl rfl)
theorem dX6_seating_42 : decode cX6_seating 42 = .ok (.if_icmp .ge 77, 3) := dk_162 0 77 (dk_at dksX6_seating_1 20 rfl rfl)
theorem dX6_seating_45 : decode cX6_seating 45 = .ok (.aload_n 0, 1) := dk_42 (dk_at dksX6_seating_1 23 rfl rfl)
theorem dX6_seating_46 : decode cX6_seating 46 = .ok (.iload_n 3, 1) := dk_29 (dk_at dksX6_seating_2 0 rfl rfl)
theorem dX6_seating_47 : decode cX6_seating 47 = .ok (.invokevirtual 373, 3) := dk_182 1 117 (dk_at dksX6_seating_2 1 rfl rfl)
theorem dX6_seating_50 : decode cX6_seating 50 = .ok (.aload_n 0, 1) := dk_42 (dk_at dksX6_seating_2 4 rfl rfl)
theorem dX6_seating_51 : decode cX6_seating 51 = .ok (.iload_n 1, 1) := dk_27 (dk_at dksX6_seating_2 5 rfl rfl)
theorem dX6_seating_52 : decode cX6_seating 52 = .ok (.invokevirtual 358, 3) := dk_182 1 102 (dk_at dksX6_seating_2 6 rfl rfl)
theorem dX6_seating_55 : decode cX6_seating 55 = .ok (.invokestatic 361, 3) := dk_184 1 105 (dk_at dksX6_seating_2 9 rfl rfl)
theorem dX6_seating_58 : decode cX6_seating 58 = .ok (.istore 4, 2) := dk_54 4 (dk_at dksX6_seating_2 12 rfl rfl)
theorem dX6_seating_60 : decode cX6_seating 60 = .ok (.iload 4, 2) := dk_21 4 (dk_at dksX6_seating_2 14 rfl rfl)
theorem dX6_seating_62 : decode cX6_seating 62 = .ok (.aload_n 0, 1) := dk_42 (dk_at dksX6_seating_2 16 rfl rfl)
theorem dX6_seating_63 : decode cX6_seating 63 = .ok (.getfield 370, 3) := dk_180 1 114 (dk_at dksX6_seating_2 17 rfl rfl)
theorem dX6_seating_66 : decode cX6_seating 66 = .ok (.if_icmp .gt 6, 3) := dk_163 0 6 (dk_at dksX6_seating_2 20 rfl rfl)
theorem dX6_seating_69 : decode cX6_seating 69 = .ok (.goto 44, 3) := dk_167 0 44 (dk_at dksX6_seating_3 0 rfl rfl)
theorem dX6_seating_72 : decode cX6_seating 72 = .ok (.aload_n 0, 1) := dk_42 (dk_at dksX6_seating_3 3 rfl rfl)
theorem dX6_seating_73 : decode cX6_seating 73 = .ok (.iload 4, 2) := dk_21 4 (dk_at dksX6_seating_3 4 rfl rfl)
theorem dX6_seating_75 : decode cX6_seating 75 = .ok (.putfield 370, 3) := dk_181 1 114 (dk_at dksX6_seating_3 6 rfl rfl)
theorem dX6_seating_78 : decode cX6_seating 78 = .ok (.iconst 0, 1) := dk_3 (dk_at dksX6_seating_3 9 rfl rfl)
theorem dX6_seating_79 : decode cX6_seating 79 = .ok (.istore 5, 2) := dk_54 5 (dk_at dksX6_seating_3 10 rfl rfl)
theorem dX6_seating_81 : decode cX6_seating 81 = .ok (.iload 5, 2) := dk_21 5 (dk_at dksX6_seating_3 12 rfl rfl)
theorem dX6_seating_83 : decode cX6_seating 83 = .ok (.aload_n 0, 1) := dk_42 (dk_at dksX6_seating_3 14 rfl rfl)
theorem dX6_seating_84 : decode cX6_seating 84 = .ok (.getfield 303, 3) := dk_180 1 47 (dk_at dksX6_seating_3 15 rfl rfl)
theorem dX6_seating_87 : decode cX6_seating 87 = .ok (.getfield 193, 3) := dk_180 0 193 (dk_at dksX6_seating_3 18 rfl rfl)
theorem dX6_seating_90 : decode cX6_seating 90 = .ok (.if_icmp .ge 23, 3) := dk_162 0 23 (dk_at dksX6_seating_3 21 rfl rfl)
theorem dX6_seating_93 : decode cX6_seating 93 = .ok (.aload_n 0, 1) := dk_42 (dk_at dksX6_seating_4 0 rfl rfl)
theorem dX6_seating_94 : decode cX6_seating 94 = .ok (.getfield 33, 3) := dk_180 0 33 (dk_at dksX6_seating_4 1 rfl rfl)
theorem dX6_seating_97 : decode cX6_seating 97 = .ok (.iload 5, 2) := dk_21 5 (dk_at dksX6_seating_4 4 rfl rfl)
theorem dX6_seating_99 : decode cX6_seating 99 = .ok (.aload_n 0, 1) := dk_42 (dk_at dksX6_seating_4 6 rfl rfl)
theorem dX6_seating_100 : decode cX6_seating 100 = .ok (.getfield 21, 3) := dk_180 0 21 (dk_at dksX6_seating_4 7 rfl rfl)
theorem dX6_seating_103 : decode cX6_seating 103 = .ok (.iload 5, 2) := dk_21 5 (dk_at dksX6_seating_4 10 rfl rfl)
theorem dX6_seating_105 : decode cX6_seating 105 = .ok (.iaload, 1) := dk_46 (dk_at dksX6_seating_4 12 rfl rfl)
theorem dX6_seating_106 : decode cX6_seating 106 = .ok (.iastore, 1) := dk_79 (dk_at dksX6_seating_4 13 rfl rfl)
theorem dX6_seating_107 : decode cX6_seating 107 = .ok (.iinc 5 1, 3) := dk_132 5 1 (dk_at dksX6_seating_4 14 rfl rfl)
theorem dX6_seating_110 : decode cX6_seating 110 = .ok (.goto (-29), 3) := dk_167 255 227 (dk_at dksX6_seating_4 17 rfl rfl)
theorem dX6_seating_113 : decode cX6_seating 113 = .ok (.iinc 3 1, 3) := dk_132 3 1 (dk_at dksX6_seating_4 20 rfl rfl)
theorem dX6_seating_116 : decode cX6_seating 116 = .ok (.goto (-76), 3) := dk_167 255 180 (dk_at dksX6_seating_5 0 rfl rfl)
theorem dX6_seating_119 : decode cX6_seating 119 = .ok (.return_, 1) := dk_177 (dk_at dksX6_seating_5 3 rfl rfl)
abbrev cX6_frees : ByteArray := prog_15_method_80_code
def yX6_frees : MethodName := ⟨RX6, "frees", "()V"⟩
def dkwX6_frees_3 : List UInt8 := [167, 255, 187, 177]
abbrev dktX6_frees_3 : List UInt8 := dkwX6_frees_3 ++ []
def dkwX6_frees_2 : List UInt8 := [46, 79, 132, 2, 255, 167, 255, 218, 42, 180, 0, 30, 28, 42, 180, 0, 17, 27, 46, 79, 132, 1, 1]
abbrev dktX6_frees_2 : List UInt8 := dkwX6_frees_2 ++ dktX6_frees_3
def dkwX6_frees_1 : List UInt8 := [4, 100, 46, 42, 180, 0, 17, 27, 46, 164, 0, 23, 42, 180, 0, 30, 28, 42, 180, 0, 30, 28, 4, 100]
abbrev dktX6_frees_1 : List UInt8 := dkwX6_frees_1 ++ dktX6_frees_2
def dkwX6_frees_0 : List UInt8 := [3, 60, 27, 42, 180, 1, 47, 180, 0, 193, 162, 0, 64, 27, 61, 28, 158, 0, 40, 42, 180, 0, 30, 28]
abbrev dktX6_frees_0 : List UInt8 := dkwX6_frees_0 ++ dktX6_frees_1
theorem dksX6_frees_0 : cX6_frees.data.toList.drop 0 = dktX6_frees_0 := by decide +kernel
theorem dksX6_frees_1 : cX6_frees.data.toList.drop 24 = dktX6_frees_1 := dk_seg dksX6_frees_0 24 rfl rfl
theorem dksX6_frees_2 : cX6_frees.data.toList.drop 48 = dktX6_frees_2 := dk_seg dksX6_frees_1 24 rfl rfl
theorem dksX6_frees_3 : cX6_frees.data.toList.drop 71 = dktX6_frees_3 := dk_seg dksX6_frees_2 23 rfl rfl
theorem dX6_frees_0 : decode cX6_frees 0 = .ok (.iconst 0, 1) := dk_3 (dk_at dksX6_frees_0 0 rfl rfl)
theorem dX6_frees_1 : decode cX6_frees 1 = .ok (.istore_n 1, 1) := dk_60 (dk_at dksX6_frees_0 1 rfl rfl)
theorem dX6_frees_2 : decode cX6_frees 2 = .ok (.iload_n 1, 1) := dk_27 (dk_at dksX6_frees_0 2 rfl rfl)
theorem dX6_frees_3 : decode cX6_frees 3 = .ok (.aload_n 0, 1) := dk_42 (dk_at dksX6_frees_0 3 rfl rfl)
theorem dX6_frees_4 : decode cX6_frees 4 = .ok (.getfield 303, 3) := dk_180 1 47 (dk_at dksX6_frees_0 4 rfl rfl)
theorem dX6_frees_7 : decode cX6_frees 7 = .ok (.getfield 193, 3) := dk_180 0 193 (dk_at dksX6_frees_0 7 rfl rfl)
theorem dX6_frees_10 : decode cX6_frees 10 = .ok (.if_icmp .ge 64, 3) := dk_162 0 64 (dk_at dksX6_frees_0 10 rfl rfl)
theorem dX6_frees_13 : decode cX6_frees 13 = .ok (.iload_n 1, 1) := dk_27 (dk_at dksX6_frees_0 13 rfl rfl)
theorem dX6_frees_14 : decode cX6_frees 14 = .ok (.istore_n 2, 1) := dk_61 (dk_at dksX6_frees_0 14 rfl rfl)
theorem dX6_frees_15 : decode cX6_frees 15 = .ok (.iload_n 2, 1) := dk_28 (dk_at dksX6_frees_0 15 rfl rfl)
theorem dX6_frees_16 : decode cX6_frees 16 = .ok (.ifCond .le 40, 3) := dk_158 0 40 (dk_at dksX6_frees_0 16 rfl rfl)
theorem dX6_frees_19 : decode cX6_frees 19 = .ok (.aload_n 0, 1) := dk_42 (dk_at dksX6_frees_0 19 rfl rfl)
theorem dX6_frees_20 : decode cX6_frees 20 = .ok (.getfield 30, 3) := dk_180 0 30 (dk_at dksX6_frees_0 20 rfl rfl)
theorem dX6_frees_23 : decode cX6_frees 23 = .ok (.iload_n 2, 1) := dk_28 (dk_at dksX6_frees_0 23 rfl rfl)
theorem dX6_frees_24 : decode cX6_frees 24 = .ok (.iconst 1, 1) := dk_4 (dk_at dksX6_frees_1 0 rfl rfl)
theorem dX6_frees_25 : decode cX6_frees 25 = .ok (.isub, 1) := dk_100 (dk_at dksX6_frees_1 1 rfl rfl)
theorem dX6_frees_26 : decode cX6_frees 26 = .ok (.iaload, 1) := dk_46 (dk_at dksX6_frees_1 2 rfl rfl)
theorem dX6_frees_27 : decode cX6_frees 27 = .ok (.aload_n 0, 1) := dk_42 (dk_at dksX6_frees_1 3 rfl rfl)
theorem dX6_frees_28 : decode cX6_frees 28 = .ok (.getfield 17, 3) := dk_180 0 17 (dk_at dksX6_frees_1 4 rfl rfl)
theorem dX6_frees_31 : decode cX6_frees 31 = .ok (.iload_n 1, 1) := dk_27 (dk_at dksX6_frees_1 7 rfl rfl)
theorem dX6_frees_32 : decode cX6_frees 32 = .ok (.iaload, 1) := dk_46 (dk_at dksX6_frees_1 8 rfl rfl)
theorem dX6_frees_33 : decode cX6_frees 33 = .ok (.if_icmp .le 23, 3) := dk_164 0 23 (dk_at dksX6_frees_1 9 rfl rfl)
theorem dX6_frees_36 : decode cX6_frees 36 = .ok (.aload_n 0, 1) := dk_42 (dk_at dksX6_frees_1 12 rfl rfl)
theorem dX6_frees_37 : decode cX6_frees 37 = .ok (.getfield 30, 3) := dk_180 0 30 (dk_at dksX6_frees_1 13 rfl rfl)
theorem dX6_frees_40 : decode cX6_frees 40 = .ok (.iload_n 2, 1) := dk_28 (dk_at dksX6_frees_1 16 rfl rfl)
theorem dX6_frees_41 : decode cX6_frees 41 = .ok (.aload_n 0, 1) := dk_42 (dk_at dksX6_frees_1 17 rfl rfl)
theorem dX6_frees_42 : decode cX6_frees 42 = .ok (.getfield 30, 3) := dk_180 0 30 (dk_at dksX6_frees_1 18 rfl rfl)
theorem dX6_frees_45 : decode cX6_frees 45 = .ok (.iload_n 2, 1) := dk_28 (dk_at dksX6_frees_1 21 rfl rfl)
theorem dX6_frees_46 : decode cX6_frees 46 = .ok (.iconst 1, 1) := dk_4 (dk_at dksX6_frees_1 22 rfl rfl)
theorem dX6_frees_47 : decode cX6_frees 47 = .ok (.isub, 1) := dk_100 (dk_at dksX6_frees_1 23 rfl rfl)
theorem dX6_frees_48 : decode cX6_frees 48 = .ok (.iaload, 1) := dk_46 (dk_at dksX6_frees_2 0 rfl rfl)
theorem dX6_frees_49 : decode cX6_frees 49 = .ok (.iastore, 1) := dk_79 (dk_at dksX6_frees_2 1 rfl rfl)
theorem dX6_frees_50 : decode cX6_frees 50 = .ok (.iinc 2 (-1), 3) := dk_132 2 255 (dk_at dksX6_frees_2 2 rfl rfl)
theorem dX6_frees_53 : decode cX6_frees 53 = .ok (.goto (-38), 3) := dk_167 255 218 (dk_at dksX6_frees_2 5 rfl rfl)
theorem dX6_frees_56 : decode cX6_frees 56 = .ok (.aload_n 0, 1) := dk_42 (dk_at dksX6_frees_2 8 rfl rfl)
theorem dX6_frees_57 : decode cX6_frees 57 = .ok (.getfield 30, 3) := dk_180 0 30 (dk_at dksX6_frees_2 9 rfl rfl)
theorem dX6_frees_60 : decode cX6_frees 60 = .ok (.iload_n 2, 1) := dk_28 (dk_at dksX6_frees_2 12 rfl rfl)
theorem dX6_frees_61 : decode cX6_frees 61 = .ok (.aload_n 0, 1) := dk_42 (dk_at dksX6_frees_2 13 rfl rfl)
theorem dX6_frees_62 : decode cX6_frees 62 = .ok (.getfield 17, 3) := dk_180 0 17 (dk_at dksX6_frees_2 14 rfl rfl)
theorem dX6_frees_65 : decode cX6_frees 65 = .ok (.iload_n 1, 1) := dk_27 (dk_at dksX6_frees_2 17 rfl rfl)
theorem dX6_frees_66 : decode cX6_frees 66 = .ok (.iaload, 1) := dk_46 (dk_at dksX6_frees_2 18 rfl rfl)
theorem dX6_frees_67 : decode cX6_frees 67 = .ok (.iastore, 1) := dk_79 (dk_at dksX6_frees_2 19 rfl rfl)
theorem dX6_frees_68 : decode cX6_frees 68 = .ok (.iinc 1 1, 3) := dk_132 1 1 (dk_at dksX6_frees_2 20 rfl rfl)
theorem dX6_frees_71 : decode cX6_frees 71 = .ok (.goto (-69), 3) := dk_167 255 187 (dk_at dksX6_frees_3 0 rfl rfl)
theorem dX6_frees_74 : decode cX6_frees 74 = .ok (.return_, 1) := dk_177 (dk_at dksX6_frees_3 3 rfl rfl)
abbrev cX6_seats : ByteArray := prog_15_method_81_code
def yX6_seats : MethodName := ⟨RX6, "seats", "(I)V"⟩
def dkwX6_seats_6 : List UInt8 := [42, 180, 0, 21, 21, 5, 42, 180, 0, 30, 21, 7, 46, 79, 132, 5, 1, 167, 255, 136, 177]
abbrev dktX6_seats_6 : List UInt8 := dkwX6_seats_6 ++ []
def dkwX6_seats_5 : List UInt8 := [153, 0, 7, 3, 167, 0, 4, 4, 100, 54, 6, 132, 7, 1, 167, 255, 220, 29, 4, 21, 7, 120, 128, 62]
abbrev dktX6_seats_5 : List UInt8 := dkwX6_seats_5 ++ dktX6_seats_6
def dkwX6_seats_4 : List UInt8 := [54, 7, 29, 21, 7, 184, 1, 58, 154, 0, 8, 21, 6, 158, 0, 28, 21, 6, 29, 21, 7, 184, 1, 58]
abbrev dktX6_seats_4 : List UInt8 := dkwX6_seats_4 ++ dktX6_seats_5
def dkwX6_seats_3 : List UInt8 := [180, 0, 193, 162, 0, 20, 21, 4, 42, 180, 1, 47, 180, 0, 193, 4, 100, 21, 5, 100, 108, 54, 4, 3]
abbrev dktX6_seats_3 : List UInt8 := dkwX6_seats_3 ++ dktX6_seats_4
def dkwX6_seats_2 : List UInt8 := [162, 0, 114, 28, 21, 4, 108, 54, 6, 28, 21, 4, 112, 61, 21, 5, 4, 96, 42, 180, 1, 47]
abbrev dktX6_seats_2 : List UInt8 := dkwX6_seats_2 ++ dktX6_seats_3
def dkwX6_seats_1 : List UInt8 := [21, 5, 104, 54, 4, 132, 5, 1, 167, 255, 234, 3, 54, 5, 21, 5, 42, 180, 1, 47, 180, 0, 193]
abbrev dktX6_seats_1 : List UInt8 := dkwX6_seats_1 ++ dktX6_seats_2
def dkwX6_seats_0 : List UInt8 := [27, 61, 3, 62, 4, 54, 4, 5, 54, 5, 21, 5, 42, 180, 1, 47, 180, 0, 193, 162, 0, 16, 21, 4]
abbrev dktX6_seats_0 : List UInt8 := dkwX6_seats_0 ++ dktX6_seats_1
theorem dksX6_seats_0 : cX6_seats.data.toList.drop 0 = dktX6_seats_0 := by decide +kernel
theorem dksX6_seats_1 : cX6_seats.data.toList.drop 24 = dktX6_seats_1 := dk_seg dksX6_seats_0 24 rfl rfl
theorem dksX6_seats_2 : cX6_seats.data.toList.drop 47 = dktX6_seats_2 := dk_seg dksX6_seats_1 23 rfl rfl
theorem dksX6_seats_3 : cX6_seats.data.toList.drop 69 = dktX6_seats_3 := dk_seg dksX6_seats_2 22 rfl rfl
theorem dksX6_seats_4 : cX6_seats.data.toList.drop 93 = dktX6_seats_4 := dk_seg dksX6_seats_3 24 rfl rfl
theorem dksX6_seats_5 : cX6_seats.data.toList.drop 117 = dktX6_seats_5 := dk_seg dksX6_seats_4 24 rfl rfl
theorem dksX6_seats_6 : cX6_seats.data.toList.drop 141 = dktX6_seats_6 := dk_seg dksX6_seats_5 24 rfl rfl
theorem dX6_seats_0 : decode cX6_seats 0 = .ok (.iload_n 1, 1) := dk_27 (dk_at dksX6_seats_0 0 rfl rfl)
theorem dX6_seats_1 : decode cX6_seats 1 = .ok (.istore_n 2, 1) := dk_61 (dk_at dksX6_seats_0 1 rfl rfl)
theorem dX6_seats_2 : decode cX6_seats 2 = .ok (.iconst 0, 1) := dk_3 (dk_at dksX6_seats_0 2 rfl rfl)
theorem dX6_seats_3 : decode cX6_seats 3 = .ok (.istore_n 3, 1) := dk_62 (dk_at dksX6_seats_0 3 rfl rfl)
theorem dX6_seats_4 : decode cX6_seats 4 = .ok (.iconst 1, 1) := dk_4 (dk_at dksX6_seats_0 4 rfl rfl)
theorem dX6_seats_5 : decode cX6_seats 5 = .ok (.istore 4, 2) := dk_54 4 (dk_at dksX6_seats_0 5 rfl rfl)
theorem dX6_seats_7 : decode cX6_seats 7 = .ok (.iconst 2, 1) := dk_5 (dk_at dksX6_seats_0 7 rfl rfl)
theorem dX6_seats_8 : decode cX6_seats 8 = .ok (.istore 5, 2) := dk_54 5 (dk_at dksX6_seats_0 8 rfl rfl)
theorem dX6_seats_10 : decode cX6_seats 10 = .ok (.iload 5, 2) := dk_21 5 (dk_at dksX6_seats_0 10 rfl rfl)
theorem dX6_seats_12 : decode cX6_seats 12 = .ok (.aload_n 0, 1) := dk_42 (dk_at dksX6_seats_0 12 rfl rfl)
theorem dX6_seats_13 : decode cX6_seats 13 = .ok (.getfield 303, 3) := dk_180 1 47 (dk_at dksX6_seats_0 13 rfl rfl)
theorem dX6_seats_16 : decode cX6_seats 16 = .ok (.getfield 193, 3) := dk_180 0 193 (dk_at dksX6_seats_0 16 rfl rfl)
theorem dX6_seats_19 : decode cX6_seats 19 = .ok (.if_icmp .ge 16, 3) := dk_162 0 16 (dk_at dksX6_seats_0 19 rfl rfl)
theorem dX6_seats_22 : decode cX6_seats 22 = .ok (.iload 4, 2) := dk_21 4 (dk_at dksX6_seats_0 22 rfl rfl)
theorem dX6_seats_24 : decode cX6_seats 24 = .ok (.iload 5, 2) := dk_21 5 (dk_at dksX6_seats_1 0 rfl rfl)
theorem dX6_seats_26 : decode cX6_seats 26 = .ok (.imul, 1) := dk_104 (dk_at dksX6_seats_1 2 rfl rfl)
theorem dX6_seats_27 : decode cX6_seats 27 = .ok (.istore 4, 2) := dk_54 4 (dk_at dksX6_seats_1 3 rfl rfl)
theorem dX6_seats_29 : decode cX6_seats 29 = .ok (.iinc 5 1, 3) := dk_132 5 1 (dk_at dksX6_seats_1 5 rfl rfl)
theorem dX6_seats_32 : decode cX6_seats 32 = .ok (.goto (-22), 3) := dk_167 255 234 (dk_at dksX6_seats_1 8 rfl rfl)
theorem dX6_seats_35 : decode cX6_seats 35 = .ok (.iconst 0, 1) := dk_3 (dk_at dksX6_seats_1 11 rfl rfl)
theorem dX6_seats_36 : decode cX6_seats 36 = .ok (.istore 5, 2) := dk_54 5 (dk_at dksX6_seats_1 12 rfl rfl)
theorem dX6_seats_38 : decode cX6_seats 38 = .ok (.iload 5, 2) := dk_21 5 (dk_at dksX6_seats_1 14 rfl rfl)
theorem dX6_seats_40 : decode cX6_seats 40 = .ok (.aload_n 0, 1) := dk_42 (dk_at dksX6_seats_1 16 rfl rfl)
theorem dX6_seats_41 : decode cX6_seats 41 = .ok (.getfield 303, 3) := dk_180 1 47 (dk_at dksX6_seats_1 17 rfl rfl)
theorem dX6_seats_44 : decode cX6_seats 44 = .ok (.getfield 193, 3) := dk_180 0 193 (dk_at dksX6_seats_1 20 rfl rfl)
theorem dX6_seats_47 : decode cX6_seats 47 = .ok (.if_icmp .ge 114, 3) := dk_162 0 114 (dk_at dksX6_seats_2 0 rfl rfl)
theorem dX6_seats_50 : decode cX6_seats 50 = .ok (.iload_n 2, 1) := dk_28 (dk_at dksX6_seats_2 3 rfl rfl)
theorem dX6_seats_51 : decode cX6_seats 51 = .ok (.iload 4, 2) := dk_21 4 (dk_at dksX6_seats_2 4 rfl rfl)
theorem dX6_seats_53 : decode cX6_seats 53 = .ok (.idiv, 1) := dk_108 (dk_at dksX6_seats_2 6 rfl rfl)
theorem dX6_seats_54 : decode cX6_seats 54 = .ok (.istore 6, 2) := dk_54 6 (dk_at dksX6_seats_2 7 rfl rfl)
theorem dX6_seats_56 : decode cX6_seats 56 = .ok (.iload_n 2, 1) := dk_28 (dk_at dksX6_seats_2 9 rfl rfl)
theorem dX6_seats_57 : decode cX6_seats 57 = .ok (.iload 4, 2) := dk_21 4 (dk_at dksX6_seats_2 10 rfl rfl)
theorem dX6_seats_59 : decode cX6_seats 59 = .ok (.irem, 1) := dk_112 (dk_at dksX6_seats_2 12 rfl rfl)
theorem dX6_seats_60 : decode cX6_seats 60 = .ok (.istore_n 2, 1) := dk_61 (dk_at dksX6_seats_2 13 rfl rfl)
theorem dX6_seats_61 : decode cX6_seats 61 = .ok (.iload 5, 2) := dk_21 5 (dk_at dksX6_seats_2 14 rfl rfl)
theorem dX6_seats_63 : decode cX6_seats 63 = .ok (.iconst 1, 1) := dk_4 (dk_at dksX6_seats_2 16 rfl rfl)
theorem dX6_seats_64 : decode cX6_seats 64 = .ok (.iadd, 1) := dk_96 (dk_at dksX6_seats_2 17 rfl rfl)
theorem dX6_seats_65 : decode cX6_seats 65 = .ok (.aload_n 0, 1) := dk_42 (dk_at dksX6_seats_2 18 rfl rfl)
theorem dX6_seats_66 : decode cX6_seats 66 = .ok (.getfield 303, 3) := dk_180 1 47 (dk_at dksX6_seats_2 19 rfl rfl)
theorem dX6_seats_69 : decode cX6_seats 69 = .ok (.getfield 193, 3) := dk_180 0 193 (dk_at dksX6_seats_3 0 rfl rfl)
theorem dX6_seats_72 : decode cX6_seats 72 = .ok (.if_icmp .ge 20, 3) := dk_162 0 20 (dk_at dksX6_seats_3 3 rfl rfl)
theorem dX6_seats_75 : decode cX6_seats 75 = .ok (.iload 4, 2) := dk_21 4 (dk_at dksX6_seats_3 6 rfl rfl)
theorem dX6_seats_77 : decode cX6_seats 77 = .ok (.aload_n 0, 1) := dk_42 (dk_at dksX6_seats_3 8 rfl rfl)
theorem dX6_seats_78 : decode cX6_seats 78 = .ok (.getfield 303, 3) := dk_180 1 47 (dk_at dksX6_seats_3 9 rfl rfl)
theorem dX6_seats_81 : decode cX6_seats 81 = .ok (.getfield 193, 3) := dk_180 0 193 (dk_at dksX6_seats_3 12 rfl rfl)
theorem dX6_seats_84 : decode cX6_seats 84 = .ok (.iconst 1, 1) := dk_4 (dk_at dksX6_seats_3 15 rfl rfl)
theorem dX6_seats_85 : decode cX6_seats 85 = .ok (.isub, 1) := dk_100 (dk_at dksX6_seats_3 16 rfl rfl)
theorem dX6_seats_86 : decode cX6_seats 86 = .ok (.iload 5, 2) := dk_21 5 (dk_at dksX6_seats_3 17 rfl rfl)
theorem dX6_seats_88 : decode cX6_seats 88 = .ok (.isub, 1) := dk_100 (dk_at dksX6_seats_3 19 rfl rfl)
theorem dX6_seats_89 : decode cX6_seats 89 = .ok (.idiv, 1) := dk_108 (dk_at dksX6_seats_3 20 rfl rfl)
theorem dX6_seats_90 : decode cX6_seats 90 = .ok (.istore 4, 2) := dk_54 4 (dk_at dksX6_seats_3 21 rfl rfl)
theorem dX6_seats_92 : decode cX6_seats 92 = .ok (.iconst 0, 1) := dk_3 (dk_at dksX6_seats_3 23 rfl rfl)
theorem dX6_seats_93 : decode cX6_seats 93 = .ok (.istore 7, 2) := dk_54 7 (dk_at dksX6_seats_4 0 rfl rfl)
theorem dX6_seats_95 : decode cX6_seats 95 = .ok (.iload_n 3, 1) := dk_29 (dk_at dksX6_seats_4 2 rfl rfl)
theorem dX6_seats_96 : decode cX6_seats 96 = .ok (.iload 7, 2) := dk_21 7 (dk_at dksX6_seats_4 3 rfl rfl)
theorem dX6_seats_98 : decode cX6_seats 98 = .ok (.invokestatic 314, 3) := dk_184 1 58 (dk_at dksX6_seats_4 5 rfl rfl)
theorem dX6_seats_101 : decode cX6_seats 101 = .ok (.ifCond .ne 8, 3) := dk_154 0 8 (dk_at dksX6_seats_4 8 rfl rfl)
theorem dX6_seats_104 : decode cX6_seats 104 = .ok (.iload 6, 2) := dk_21 6 (dk_at dksX6_seats_4 11 rfl rfl)
theorem dX6_seats_106 : decode cX6_seats 106 = .ok (.ifCond .le 28, 3) := dk_158 0 28 (dk_at dksX6_seats_4 13 rfl rfl)
theorem dX6_seats_109 : decode cX6_seats 109 = .ok (.iload 6, 2) := dk_21 6 (dk_at dksX6_seats_4 16 rfl rfl)
theorem dX6_seats_111 : decode cX6_seats 111 = .ok (.iload_n 3, 1) := dk_29 (dk_at dksX6_seats_4 18 rfl rfl)
theorem dX6_seats_112 : decode cX6_seats 112 = .ok (.iload 7, 2) := dk_21 7 (dk_at dksX6_seats_4 19 rfl rfl)
theorem dX6_seats_114 : decode cX6_seats 114 = .ok (.invokestatic 314, 3) := dk_184 1 58 (dk_at dksX6_seats_4 21 rfl rfl)
theorem dX6_seats_117 : decode cX6_seats 117 = .ok (.ifCond .eq 7, 3) := dk_153 0 7 (dk_at dksX6_seats_5 0 rfl rfl)
theorem dX6_seats_120 : decode cX6_seats 120 = .ok (.iconst 0, 1) := dk_3 (dk_at dksX6_seats_5 3 rfl rfl)
theorem dX6_seats_121 : decode cX6_seats 121 = .ok (.goto 4, 3) := dk_167 0 4 (dk_at dksX6_seats_5 4 rfl rfl)
theorem dX6_seats_124 : decode cX6_seats 124 = .ok (.iconst 1, 1) := dk_4 (dk_at dksX6_seats_5 7 rfl rfl)
theorem dX6_seats_125 : decode cX6_seats 125 = .ok (.isub, 1) := dk_100 (dk_at dksX6_seats_5 8 rfl rfl)
theorem dX6_seats_126 : decode cX6_seats 126 = .ok (.istore 6, 2) := dk_54 6 (dk_at dksX6_seats_5 9 rfl rfl)
theorem dX6_seats_128 : decode cX6_seats 128 = .ok (.iinc 7 1, 3) := dk_132 7 1 (dk_at dksX6_seats_5 11 rfl rfl)
theorem dX6_seats_131 : decode cX6_seats 131 = .ok (.goto (-36), 3) := dk_167 255 220 (dk_at dksX6_seats_5 14 rfl rfl)
theorem dX6_seats_134 : decode cX6_seats 134 = .ok (.iload_n 3, 1) := dk_29 (dk_at dksX6_seats_5 17 rfl rfl)
theorem dX6_seats_135 : decode cX6_seats 135 = .ok (.iconst 1, 1) := dk_4 (dk_at dksX6_seats_5 18 rfl rfl)
theorem dX6_seats_136 : decode cX6_seats 136 = .ok (.iload 7, 2) := dk_21 7 (dk_at dksX6_seats_5 19 rfl rfl)
theorem dX6_seats_138 : decode cX6_seats 138 = .ok (.ishl, 1) := dk_120 (dk_at dksX6_seats_5 21 rfl rfl)
theorem dX6_seats_139 : decode cX6_seats 139 = .ok (.ior, 1) := dk_128 (dk_at dksX6_seats_5 22 rfl rfl)
theorem dX6_seats_140 : decode cX6_seats 140 = .ok (.istore_n 3, 1) := dk_62 (dk_at dksX6_seats_5 23 rfl rfl)
theorem dX6_seats_141 : decode cX6_seats 141 = .ok (.aload_n 0, 1) := dk_42 (dk_at dksX6_seats_6 0 rfl rfl)
theorem dX6_seats_142 : decode cX6_seats 142 = .ok (.getfield 21, 3) := dk_180 0 21 (dk_at dksX6_seats_6 1 rfl rfl)
theorem dX6_seats_145 : decode cX6_seats 145 = .ok (.iload 5, 2) := dk_21 5 (dk_at dksX6_seats_6 4 rfl rfl)
theorem dX6_seats_147 : decode cX6_seats 147 = .ok (.aload_n 0, 1) := dk_42 (dk_at dksX6_seats_6 6 rfl rfl)
theorem dX6_seats_148 : decode cX6_seats 148 = .ok (.getfield 30, 3) := dk_180 0 30 (dk_at dksX6_seats_6 7 rfl rfl)
theorem dX6_seats_151 : decode cX6_seats 151 = .ok (.iload 7, 2) := dk_21 7 (dk_at dksX6_seats_6 10 rfl rfl)
theorem dX6_seats_153 : decode cX6_seats 153 = .ok (.iaload, 1) := dk_46 (dk_at dksX6_seats_6 12 rfl rfl)
theorem dX6_seats_154 : decode cX6_seats 154 = .ok (.iastore, 1) := dk_79 (dk_at dksX6_seats_6 13 rfl rfl)
theorem dX6_seats_155 : decode cX6_seats 155 = .ok (.iinc 5 1, 3) := dk_132 5 1 (dk_at dksX6_seats_6 14 rfl rfl)
theorem dX6_seats_158 : decode cX6_seats 158 = .ok (.goto (-120), 3) := dk_167 255 136 (dk_at dksX6_seats_6 17 rfl rfl)
theorem dX6_seats_161 : decode cX6_seats 161 = .ok (.return_, 1) := dk_177 (dk_at dksX6_seats_6 20 rfl rfl)
abbrev cX6_seatAt : ByteArray := prog_15_method_84_code
def yX6_seatAt : MethodName := ⟨RX6, "seatAt", "(II)I"⟩
def dkwX6_seatAt_1 : List UInt8 := [182, 0, 55, 172, 42, 28, 182, 1, 120, 42, 42, 180, 0, 33, 27, 46, 182, 0, 59, 172]
abbrev dktX6_seatAt_1 : List UInt8 := dkwX6_seatAt_1 ++ []
def dkwX6_seatAt_0 : List UInt8 := [42, 3, 181, 0, 49, 42, 42, 27, 182, 1, 83, 28, 182, 1, 98, 62, 29, 158, 0, 9, 42, 29]
abbrev dktX6_seatAt_0 : List UInt8 := dkwX6_seatAt_0 ++ dktX6_seatAt_1
theorem dksX6_seatAt_0 : cX6_seatAt.data.toList.drop 0 = dktX6_seatAt_0 := by decide +kernel
theorem dksX6_seatAt_1 : cX6_seatAt.data.toList.drop 22 = dktX6_seatAt_1 := dk_seg dksX6_seatAt_0 22 rfl rfl
theorem dX6_seatAt_0 : decode cX6_seatAt 0 = .ok (.aload_n 0, 1) := dk_42 (dk_at dksX6_seatAt_0 0 rfl rfl)
theorem dX6_seatAt_1 : decode cX6_seatAt 1 = .ok (.iconst 0, 1) := dk_3 (dk_at dksX6_seatAt_0 1 rfl rfl)
theorem dX6_seatAt_2 : decode cX6_seatAt 2 = .ok (.putfield 49, 3) := dk_181 0 49 (dk_at dksX6_seatAt_0 2 rfl rfl)
theorem dX6_seatAt_5 : decode cX6_seatAt 5 = .ok (.aload_n 0, 1) := dk_42 (dk_at dksX6_seatAt_0 5 rfl rfl)
theorem dX6_seatAt_6 : decode cX6_seatAt 6 = .ok (.aload_n 0, 1) := dk_42 (dk_at dksX6_seatAt_0 6 rfl rfl)
theorem dX6_seatAt_7 : decode cX6_seatAt 7 = .ok (.iload_n 1, 1) := dk_27 (dk_at dksX6_seatAt_0 7 rfl rfl)
theorem dX6_seatAt_8 : decode cX6_seatAt 8 = .ok (.invokevirtual 339, 3) := dk_182 1 83 (dk_at dksX6_seatAt_0 8 rfl rfl)
theorem dX6_seatAt_11 : decode cX6_seatAt 11 = .ok (.iload_n 2, 1) := dk_28 (dk_at dksX6_seatAt_0 11 rfl rfl)
theorem dX6_seatAt_12 : decode cX6_seatAt 12 = .ok (.invokevirtual 354, 3) := dk_182 1 98 (dk_at dksX6_seatAt_0 12 rfl rfl)
theorem dX6_seatAt_15 : decode cX6_seatAt 15 = .ok (.istore_n 3, 1) := dk_62 (dk_at dksX6_seatAt_0 15 rfl rfl)
theorem dX6_seatAt_16 : decode cX6_seatAt 16 = .ok (.iload_n 3, 1) := dk_29 (dk_at dksX6_seatAt_0 16 rfl rfl)
theorem dX6_seatAt_17 : decode cX6_seatAt 17 = .ok (.ifCond .le 9, 3) := dk_158 0 9 (dk_at dksX6_seatAt_0 17 rfl rfl)
theorem dX6_seatAt_20 : decode cX6_seatAt 20 = .ok (.aload_n 0, 1) := dk_42 (dk_at dksX6_seatAt_0 20 rfl rfl)
theorem dX6_seatAt_21 : decode cX6_seatAt 21 = .ok (.iload_n 3, 1) := dk_29 (dk_at dksX6_seatAt_0 21 rfl rfl)
theorem dX6_seatAt_22 : decode cX6_seatAt 22 = .ok (.invokevirtual 55, 3) := dk_182 0 55 (dk_at dksX6_seatAt_1 0 rfl rfl)
theorem dX6_seatAt_25 : decode cX6_seatAt 25 = .ok (.ireturn, 1) := dk_172 (dk_at dksX6_seatAt_1 3 rfl rfl)
theorem dX6_seatAt_26 : decode cX6_seatAt 26 = .ok (.aload_n 0, 1) := dk_42 (dk_at dksX6_seatAt_1 4 rfl rfl)
theorem dX6_seatAt_27 : decode cX6_seatAt 27 = .ok (.iload_n 2, 1) := dk_28 (dk_at dksX6_seatAt_1 5 rfl rfl)
theorem dX6_seatAt_28 : decode cX6_seatAt 28 = .ok (.invokevirtual 376, 3) := dk_182 1 120 (dk_at dksX6_seatAt_1 6 rfl rfl)
theorem dX6_seatAt_31 : decode cX6_seatAt 31 = .ok (.aload_n 0, 1) := dk_42 (dk_at dksX6_seatAt_1 9 rfl rfl)
theorem dX6_seatAt_32 : decode cX6_seatAt 32 = .ok (.aload_n 0, 1) := dk_42 (dk_at dksX6_seatAt_1 10 rfl rfl)
theorem dX6_seatAt_33 : decode cX6_seatAt 33 = .ok (.getfield 33, 3) := dk_180 0 33 (dk_at dksX6_seatAt_1 11 rfl rfl)
theorem dX6_seatAt_36 : decode cX6_seatAt 36 = .ok (.iload_n 1, 1) := dk_27 (dk_at dksX6_seatAt_1 14 rfl rfl)
theorem dX6_seatAt_37 : decode cX6_seatAt 37 = .ok (.iaload, 1) := dk_46 (dk_at dksX6_seatAt_1 15 rfl rfl)
theorem dX6_seatAt_38 : decode cX6_seatAt 38 = .ok (.invokevirtual 59, 3) := dk_182 0 59 (dk_at dksX6_seatAt_1 16 rfl rfl)
theorem dX6_seatAt_41 : decode cX6_seatAt 41 = .ok (.ireturn, 1) := dk_172 (dk_at dksX6_seatAt_1 19 rfl rfl)
abbrev cX6_likes : ByteArray := prog_15_method_88_code
def yX6_likes : MethodName := ⟨RX6, "likes", "(III)I"⟩
def dkwX6_likes_2 : List UInt8 := [182, 0, 59, 172]
abbrev dktX6_likes_2 : List UInt8 := dkwX6_likes_2 ++ []
def dkwX6_likes_1 : List UInt8 := [21, 4, 182, 0, 55, 172, 42, 42, 27, 28, 29, 182, 1, 129, 153, 0, 7, 4, 167, 0, 4, 3]
abbrev dktX6_likes_1 : List UInt8 := dkwX6_likes_1 ++ dktX6_likes_2
def dkwX6_likes_0 : List UInt8 := [42, 3, 181, 0, 49, 42, 42, 27, 28, 182, 1, 126, 29, 182, 1, 98, 54, 4, 21, 4, 158, 0, 10, 42]
abbrev dktX6_likes_0 : List UInt8 := dkwX6_likes_0 ++ dktX6_likes_1
theorem dksX6_likes_0 : cX6_likes.data.toList.drop 0 = dktX6_likes_0 := by decide +kernel
theorem dksX6_likes_1 : cX6_likes.data.toList.drop 24 = dktX6_likes_1 := dk_seg dksX6_likes_0 24 rfl rfl
theorem dksX6_likes_2 : cX6_likes.data.toList.drop 46 = dktX6_likes_2 := dk_seg dksX6_likes_1 22 rfl rfl
theorem dX6_likes_0 : decode cX6_likes 0 = .ok (.aload_n 0, 1) := dk_42 (dk_at dksX6_likes_0 0 rfl rfl)
theorem dX6_likes_1 : decode cX6_likes 1 = .ok (.iconst 0, 1) := dk_3 (dk_at dksX6_likes_0 1 rfl rfl)
theorem dX6_likes_2 : decode cX6_likes 2 = .ok (.putfield 49, 3) := dk_181 0 49 (dk_at dksX6_likes_0 2 rfl rfl)
theorem dX6_likes_5 : decode cX6_likes 5 = .ok (.aload_n 0, 1) := dk_42 (dk_at dksX6_likes_0 5 rfl rfl)
theorem dX6_likes_6 : decode cX6_likes 6 = .ok (.aload_n 0, 1) := dk_42 (dk_at dksX6_likes_0 6 rfl rfl)
theorem dX6_likes_7 : decode cX6_likes 7 = .ok (.iload_n 1, 1) := dk_27 (dk_at dksX6_likes_0 7 rfl rfl)
theorem dX6_likes_8 : decode cX6_likes 8 = .ok (.iload_n 2, 1) := dk_28 (dk_at dksX6_likes_0 8 rfl rfl)
theorem dX6_likes_9 : decode cX6_likes 9 = .ok (.invokevirtual 382, 3) := dk_182 1 126 (dk_at dksX6_likes_0 9 rfl rfl)
theorem dX6_likes_12 : decode cX6_likes 12 = .ok (.iload_n 3, 1) := dk_29 (dk_at dksX6_likes_0 12 rfl rfl)
theorem dX6_likes_13 : decode cX6_likes 13 = .ok (.invokevirtual 354, 3) := dk_182 1 98 (dk_at dksX6_likes_0 13 rfl rfl)
theorem dX6_likes_16 : decode cX6_likes 16 = .ok (.istore 4, 2) := dk_54 4 (dk_at dksX6_likes_0 16 rfl rfl)
theorem dX6_likes_18 : decode cX6_likes 18 = .ok (.iload 4, 2) := dk_21 4 (dk_at dksX6_likes_0 18 rfl rfl)
theorem dX6_likes_20 : decode cX6_likes 20 = .ok (.ifCond .le 10, 3) := dk_158 0 10 (dk_at dksX6_likes_0 20 rfl rfl)
theorem dX6_likes_23 : decode cX6_likes 23 = .ok (.aload_n 0, 1) := dk_42 (dk_at dksX6_likes_0 23 rfl rfl)
theorem dX6_likes_24 : decode cX6_likes 24 = .ok (.iload 4, 2) := dk_21 4 (dk_at dksX6_likes_1 0 rfl rfl)
theorem dX6_likes_26 : decode cX6_likes 26 = .ok (.invokevirtual 55, 3) := dk_182 0 55 (dk_at dksX6_likes_1 2 rfl rfl)
theorem dX6_likes_29 : decode cX6_likes 29 = .ok (.ireturn, 1) := dk_172 (dk_at dksX6_likes_1 5 rfl rfl)
theorem dX6_likes_30 : decode cX6_likes 30 = .ok (.aload_n 0, 1) := dk_42 (dk_at dksX6_likes_1 6 rfl rfl)
theorem dX6_likes_31 : decode cX6_likes 31 = .ok (.aload_n 0, 1) := dk_42 (dk_at dksX6_likes_1 7 rfl rfl)
theorem dX6_likes_32 : decode cX6_likes 32 = .ok (.iload_n 1, 1) := dk_27 (dk_at dksX6_likes_1 8 rfl rfl)
theorem dX6_likes_33 : decode cX6_likes 33 = .ok (.iload_n 2, 1) := dk_28 (dk_at dksX6_likes_1 9 rfl rfl)
theorem dX6_likes_34 : decode cX6_likes 34 = .ok (.iload_n 3, 1) := dk_29 (dk_at dksX6_likes_1 10 rfl rfl)
theorem dX6_likes_35 : decode cX6_likes 35 = .ok (.invokevirtual 385, 3) := dk_182 1 129 (dk_at dksX6_likes_1 11 rfl rfl)
theorem dX6_likes_38 : decode cX6_likes 38 = .ok (.ifCond .eq 7, 3) := dk_153 0 7 (dk_at dksX6_likes_1 14 rfl rfl)
theorem dX6_likes_41 : decode cX6_likes 41 = .ok (.iconst 1, 1) := dk_4 (dk_at dksX6_likes_1 17 rfl rfl)
theorem dX6_likes_42 : decode cX6_likes 42 = .ok (.goto 4, 3) := dk_167 0 4 (dk_at dksX6_likes_1 18 rfl rfl)
theorem dX6_likes_45 : decode cX6_likes 45 = .ok (.iconst 0, 1) := dk_3 (dk_at dksX6_likes_1 21 rfl rfl)
theorem dX6_likes_46 : decode cX6_likes 46 = .ok (.invokevirtual 59, 3) := dk_182 0 59 (dk_at dksX6_likes_2 0 rfl rfl)
theorem dX6_likes_49 : decode cX6_likes 49 = .ok (.ireturn, 1) := dk_172 (dk_at dksX6_likes_2 3 rfl rfl)
abbrev cX6_areTwo : ByteArray := prog_15_method_87_code
def yX6_areTwo : MethodName := ⟨RX6, "areTwo", "(II)Z"⟩
def dkwX6_areTwo_1 : List UInt8 := [167, 0, 4, 3, 172]
abbrev dktX6_areTwo_1 : List UInt8 := dkwX6_areTwo_1 ++ []
def dkwX6_areTwo_0 : List UInt8 := [42, 27, 182, 1, 83, 153, 0, 20, 42, 28, 182, 1, 83, 153, 0, 12, 27, 28, 159, 0, 7, 4]
abbrev dktX6_areTwo_0 : List UInt8 := dkwX6_areTwo_0 ++ dktX6_areTwo_1
theorem dksX6_areTwo_0 : cX6_areTwo.data.toList.drop 0 = dktX6_areTwo_0 := by decide +kernel
theorem dksX6_areTwo_1 : cX6_areTwo.data.toList.drop 22 = dktX6_areTwo_1 := dk_seg dksX6_areTwo_0 22 rfl rfl
theorem dX6_areTwo_0 : decode cX6_areTwo 0 = .ok (.aload_n 0, 1) := dk_42 (dk_at dksX6_areTwo_0 0 rfl rfl)
theorem dX6_areTwo_1 : decode cX6_areTwo 1 = .ok (.iload_n 1, 1) := dk_27 (dk_at dksX6_areTwo_0 1 rfl rfl)
theorem dX6_areTwo_2 : decode cX6_areTwo 2 = .ok (.invokevirtual 339, 3) := dk_182 1 83 (dk_at dksX6_areTwo_0 2 rfl rfl)
theorem dX6_areTwo_5 : decode cX6_areTwo 5 = .ok (.ifCond .eq 20, 3) := dk_153 0 20 (dk_at dksX6_areTwo_0 5 rfl rfl)
theorem dX6_areTwo_8 : decode cX6_areTwo 8 = .ok (.aload_n 0, 1) := dk_42 (dk_at dksX6_areTwo_0 8 rfl rfl)
theorem dX6_areTwo_9 : decode cX6_areTwo 9 = .ok (.iload_n 2, 1) := dk_28 (dk_at dksX6_areTwo_0 9 rfl rfl)
theorem dX6_areTwo_10 : decode cX6_areTwo 10 = .ok (.invokevirtual 339, 3) := dk_182 1 83 (dk_at dksX6_areTwo_0 10 rfl rfl)
theorem dX6_areTwo_13 : decode cX6_areTwo 13 = .ok (.ifCond .eq 12, 3) := dk_153 0 12 (dk_at dksX6_areTwo_0 13 rfl rfl)
theorem dX6_areTwo_16 : decode cX6_areTwo 16 = .ok (.iload_n 1, 1) := dk_27 (dk_at dksX6_areTwo_0 16 rfl rfl)
theorem dX6_areTwo_17 : decode cX6_areTwo 17 = .ok (.iload_n 2, 1) := dk_28 (dk_at dksX6_areTwo_0 17 rfl rfl)
theorem dX6_areTwo_18 : decode cX6_areTwo 18 = .ok (.if_icmp .eq 7, 3) := dk_159 0 7 (dk_at dksX6_areTwo_0 18 rfl rfl)
theorem dX6_areTwo_21 : decode cX6_areTwo 21 = .ok (.iconst 1, 1) := dk_4 (dk_at dksX6_areTwo_0 21 rfl rfl)
theorem dX6_areTwo_22 : decode cX6_areTwo 22 = .ok (.goto 4, 3) := dk_167 0 4 (dk_at dksX6_areTwo_1 0 rfl rfl)
theorem dX6_areTwo_25 : decode cX6_areTwo 25 = .ok (.iconst 0, 1) := dk_3 (dk_at dksX6_areTwo_1 3 rfl rfl)
theorem dX6_areTwo_26 : decode cX6_areTwo 26 = .ok (.ireturn, 1) := dk_172 (dk_at dksX6_areTwo_1 4 rfl rfl)
abbrev cX6_isLiked : ByteArray := prog_15_method_86_code
def yX6_isLiked : MethodName := ⟨RX6, "isLiked", "(III)Z"⟩
def dkwX6_isLiked_2 : List UInt8 := [164, 0, 7, 4, 167, 0, 4, 3, 172]
abbrev dktX6_isLiked_2 : List UInt8 := dkwX6_isLiked_2 ++ []
def dkwX6_isLiked_1 : List UInt8 := [79, 42, 180, 0, 21, 28, 42, 180, 0, 17, 27, 46, 79, 42, 27, 28, 29, 182, 1, 123, 21, 4]
abbrev dktX6_isLiked_1 : List UInt8 := dkwX6_isLiked_1 ++ dktX6_isLiked_2
def dkwX6_isLiked_0 : List UInt8 := [42, 182, 1, 86, 42, 27, 28, 29, 182, 1, 123, 54, 4, 42, 180, 0, 21, 27, 42, 180, 0, 17, 28, 46]
abbrev dktX6_isLiked_0 : List UInt8 := dkwX6_isLiked_0 ++ dktX6_isLiked_1
theorem dksX6_isLiked_0 : cX6_isLiked.data.toList.drop 0 = dktX6_isLiked_0 := by decide +kernel
theorem dksX6_isLiked_1 : cX6_isLiked.data.toList.drop 24 = dktX6_isLiked_1 := dk_seg dksX6_isLiked_0 24 rfl rfl
theorem dksX6_isLiked_2 : cX6_isLiked.data.toList.drop 46 = dktX6_isLiked_2 := dk_seg dksX6_isLiked_1 22 rfl rfl
theorem dX6_isLiked_0 : decode cX6_isLiked 0 = .ok (.aload_n 0, 1) := dk_42 (dk_at dksX6_isLiked_0 0 rfl rfl)
theorem dX6_isLiked_1 : decode cX6_isLiked 1 = .ok (.invokevirtual 342, 3) := dk_182 1 86 (dk_at dksX6_isLiked_0 1 rfl rfl)
theorem dX6_isLiked_4 : decode cX6_isLiked 4 = .ok (.aload_n 0, 1) := dk_42 (dk_at dksX6_isLiked_0 4 rfl rfl)
theorem dX6_isLiked_5 : decode cX6_isLiked 5 = .ok (.iload_n 1, 1) := dk_27 (dk_at dksX6_isLiked_0 5 rfl rfl)
theorem dX6_isLiked_6 : decode cX6_isLiked 6 = .ok (.iload_n 2, 1) := dk_28 (dk_at dksX6_isLiked_0 6 rfl rfl)
theorem dX6_isLiked_7 : decode cX6_isLiked 7 = .ok (.iload_n 3, 1) := dk_29 (dk_at dksX6_isLiked_0 7 rfl rfl)
theorem dX6_isLiked_8 : decode cX6_isLiked 8 = .ok (.invokevirtual 379, 3) := dk_182 1 123 (dk_at dksX6_isLiked_0 8 rfl rfl)
theorem dX6_isLiked_11 : decode cX6_isLiked 11 = .ok (.istore 4, 2) := dk_54 4 (dk_at dksX6_isLiked_0 11 rfl rfl)
theorem dX6_isLiked_13 : decode cX6_isLiked 13 = .ok (.aload_n 0, 1) := dk_42 (dk_at dksX6_isLiked_0 13 rfl rfl)
theorem dX6_isLiked_14 : decode cX6_isLiked 14 = .ok (.getfield 21, 3) := dk_180 0 21 (dk_at dksX6_isLiked_0 14 rfl rfl)
theorem dX6_isLiked_17 : decode cX6_isLiked 17 = .ok (.iload_n 1, 1) := dk_27 (dk_at dksX6_isLiked_0 17 rfl rfl)
theorem dX6_isLiked_18 : decode cX6_isLiked 18 = .ok (.aload_n 0, 1) := dk_42 (dk_at dksX6_isLiked_0 18 rfl rfl)
theorem dX6_isLiked_19 : decode cX6_isLiked 19 = .ok (.getfield 17, 3) := dk_180 0 17 (dk_at dksX6_isLiked_0 19 rfl rfl)
theorem dX6_isLiked_22 : decode cX6_isLiked 22 = .ok (.iload_n 2, 1) := dk_28 (dk_at dksX6_isLiked_0 22 rfl rfl)
theorem dX6_isLiked_23 : decode cX6_isLiked 23 = .ok (.iaload, 1) := dk_46 (dk_at dksX6_isLiked_0 23 rfl rfl)
theorem dX6_isLiked_24 : decode cX6_isLiked 24 = .ok (.iastore, 1) := dk_79 (dk_at dksX6_isLiked_1 0 rfl rfl)
theorem dX6_isLiked_25 : decode cX6_isLiked 25 = .ok (.aload_n 0, 1) := dk_42 (dk_at dksX6_isLiked_1 1 rfl rfl)
theorem dX6_isLiked_26 : decode cX6_isLiked 26 = .ok (.getfield 21, 3) := dk_180 0 21 (dk_at dksX6_isLiked_1 2 rfl rfl)
theorem dX6_isLiked_29 : decode cX6_isLiked 29 = .ok (.iload_n 2, 1) := dk_28 (dk_at dksX6_isLiked_1 5 rfl rfl)
theorem dX6_isLiked_30 : decode cX6_isLiked 30 = .ok (.aload_n 0, 1) := dk_42 (dk_at dksX6_isLiked_1 6 rfl rfl)
theorem dX6_isLiked_31 : decode cX6_isLiked 31 = .ok (.getfield 17, 3) := dk_180 0 17 (dk_at dksX6_isLiked_1 7 rfl rfl)
theorem dX6_isLiked_34 : decode cX6_isLiked 34 = .ok (.iload_n 1, 1) := dk_27 (dk_at dksX6_isLiked_1 10 rfl rfl)
theorem dX6_isLiked_35 : decode cX6_isLiked 35 = .ok (.iaload, 1) := dk_46 (dk_at dksX6_isLiked_1 11 rfl rfl)
theorem dX6_isLiked_36 : decode cX6_isLiked 36 = .ok (.iastore, 1) := dk_79 (dk_at dksX6_isLiked_1 12 rfl rfl)
theorem dX6_isLiked_37 : decode cX6_isLiked 37 = .ok (.aload_n 0, 1) := dk_42 (dk_at dksX6_isLiked_1 13 rfl rfl)
theorem dX6_isLiked_38 : decode cX6_isLiked 38 = .ok (.iload_n 1, 1) := dk_27 (dk_at dksX6_isLiked_1 14 rfl rfl)
theorem dX6_isLiked_39 : decode cX6_isLiked 39 = .ok (.iload_n 2, 1) := dk_28 (dk_at dksX6_isLiked_1 15 rfl rfl)
theorem dX6_isLiked_40 : decode cX6_isLiked 40 = .ok (.iload_n 3, 1) := dk_29 (dk_at dksX6_isLiked_1 16 rfl rfl)
theorem dX6_isLiked_41 : decode cX6_isLiked 41 = .ok (.invokevirtual 379, 3) := dk_182 1 123 (dk_at dksX6_isLiked_1 17 rfl rfl)
theorem dX6_isLiked_44 : decode cX6_isLiked 44 = .ok (.iload 4, 2) := dk_21 4 (dk_at dksX6_isLiked_1 20 rfl rfl)
theorem dX6_isLiked_46 : decode cX6_isLiked 46 = .ok (.if_icmp .le 7, 3) := dk_164 0 7 (dk_at dksX6_isLiked_2 0 rfl rfl)
theorem dX6_isLiked_49 : decode cX6_isLiked 49 = .ok (.iconst 1, 1) := dk_4 (dk_at dksX6_isLiked_2 3 rfl rfl)
theorem dX6_isLiked_50 : decode cX6_isLiked 50 = .ok (.goto 4, 3) := dk_167 0 4 (dk_at dksX6_isLiked_2 4 rfl rfl)
theorem dX6_isLiked_53 : decode cX6_isLiked 53 = .ok (.iconst 0, 1) := dk_3 (dk_at dksX6_isLiked_2 7 rfl rfl)
theorem dX6_isLiked_54 : decode cX6_isLiked 54 = .ok (.ireturn, 1) := dk_172 (dk_at dksX6_isLiked_2 8 rfl rfl)
abbrev cX6_rightFor : ByteArray := prog_15_method_85_code
def yX6_rightFor : MethodName := ⟨RX6, "rightFor", "(III)I"⟩
def dkwX6_rightFor_3 : List UInt8 := [21, 4, 172]
abbrev dktX6_rightFor_3 : List UInt8 := dkwX6_rightFor_3 ++ []
def dkwX6_rightFor_2 : List UInt8 := [42, 21, 5, 29, 182, 1, 80, 153, 0, 7, 4, 167, 0, 4, 3, 96, 54, 4, 132, 5, 1, 167, 255, 193]
abbrev dktX6_rightFor_2 : List UInt8 := dkwX6_rightFor_2 ++ dktX6_rightFor_3
def dkwX6_rightFor_1 : List UInt8 := [180, 1, 7, 21, 5, 46, 27, 159, 0, 17, 42, 180, 1, 47, 180, 1, 7, 21, 5, 46, 28, 160, 0, 17]
abbrev dktX6_rightFor_1 : List UInt8 := dkwX6_rightFor_1 ++ dktX6_rightFor_2
def dkwX6_rightFor_0 : List UInt8 := [3, 54, 4, 3, 54, 5, 21, 5, 42, 180, 1, 47, 180, 0, 241, 162, 0, 57, 21, 4, 42, 180, 1, 47]
abbrev dktX6_rightFor_0 : List UInt8 := dkwX6_rightFor_0 ++ dktX6_rightFor_1
theorem dksX6_rightFor_0 : cX6_rightFor.data.toList.drop 0 = dktX6_rightFor_0 := by decide +kernel
theorem dksX6_rightFor_1 : cX6_rightFor.data.toList.drop 24 = dktX6_rightFor_1 := dk_seg dksX6_rightFor_0 24 rfl rfl
theorem dksX6_rightFor_2 : cX6_rightFor.data.toList.drop 48 = dktX6_rightFor_2 := dk_seg dksX6_rightFor_1 24 rfl rfl
theorem dksX6_rightFor_3 : cX6_rightFor.data.toList.drop 72 = dktX6_rightFor_3 := dk_seg dksX6_rightFor_2 24 rfl rfl
theorem dX6_rightFor_0 : decode cX6_rightFor 0 = .ok (.iconst 0, 1) := dk_3 (dk_at dksX6_rightFor_0 0 rfl rfl)
theorem dX6_rightFor_1 : decode cX6_rightFor 1 = .ok (.istore 4, 2) := dk_54 4 (dk_at dksX6_rightFor_0 1 rfl rfl)
theorem dX6_rightFor_3 : decode cX6_rightFor 3 = .ok (.iconst 0, 1) := dk_3 (dk_at dksX6_rightFor_0 3 rfl rfl)
theorem dX6_rightFor_4 : decode cX6_rightFor 4 = .ok (.istore 5, 2) := dk_54 5 (dk_at dksX6_rightFor_0 4 rfl rfl)
theorem dX6_rightFor_6 : decode cX6_rightFor 6 = .ok (.iload 5, 2) := dk_21 5 (dk_at dksX6_rightFor_0 6 rfl rfl)
theorem dX6_rightFor_8 : decode cX6_rightFor 8 = .ok (.aload_n 0, 1) := dk_42 (dk_at dksX6_rightFor_0 8 rfl rfl)
theorem dX6_rightFor_9 : decode cX6_rightFor 9 = .ok (.getfield 303, 3) := dk_180 1 47 (dk_at dksX6_rightFor_0 9 rfl rfl)
theorem dX6_rightFor_12 : decode cX6_rightFor 12 = .ok (.getfield 241, 3) := dk_180 0 241 (dk_at dksX6_rightFor_0 12 rfl rfl)
theorem dX6_rightFor_15 : decode cX6_rightFor 15 = .ok (.if_icmp .ge 57, 3) := dk_162 0 57 (dk_at dksX6_rightFor_0 15 rfl rfl)
theorem dX6_rightFor_18 : decode cX6_rightFor 18 = .ok (.iload 4, 2) := dk_21 4 (dk_at dksX6_rightFor_0 18 rfl rfl)
theorem dX6_rightFor_20 : decode cX6_rightFor 20 = .ok (.aload_n 0, 1) := dk_42 (dk_at dksX6_rightFor_0 20 rfl rfl)
theorem dX6_rightFor_21 : decode cX6_rightFor 21 = .ok (.getfield 303, 3) := dk_180 1 47 (dk_at dksX6_rightFor_0 21 rfl rfl)
theorem dX6_rightFor_24 : decode cX6_rightFor 24 = .ok (.getfield 263, 3) := dk_180 1 7 (dk_at dksX6_rightFor_1 0 rfl rfl)
theorem dX6_rightFor_27 : decode cX6_rightFor 27 = .ok (.iload 5, 2) := dk_21 5 (dk_at dksX6_rightFor_1 3 rfl rfl)
theorem dX6_rightFor_29 : decode cX6_rightFor 29 = .ok (.iaload, 1) := dk_46 (dk_at dksX6_rightFor_1 5 rfl rfl)
theorem dX6_rightFor_30 : decode cX6_rightFor 30 = .ok (.iload_n 1, 1) := dk_27 (dk_at dksX6_rightFor_1 6 rfl rfl)
theorem dX6_rightFor_31 : decode cX6_rightFor 31 = .ok (.if_icmp .eq 17, 3) := dk_159 0 17 (dk_at dksX6_rightFor_1 7 rfl rfl)
theorem dX6_rightFor_34 : decode cX6_rightFor 34 = .ok (.aload_n 0, 1) := dk_42 (dk_at dksX6_rightFor_1 10 rfl rfl)
theorem dX6_rightFor_35 : decode cX6_rightFor 35 = .ok (.getfield 303, 3) := dk_180 1 47 (dk_at dksX6_rightFor_1 11 rfl rfl)
theorem dX6_rightFor_38 : decode cX6_rightFor 38 = .ok (.getfield 263, 3) := dk_180 1 7 (dk_at dksX6_rightFor_1 14 rfl rfl)
theorem dX6_rightFor_41 : decode cX6_rightFor 41 = .ok (.iload 5, 2) := dk_21 5 (dk_at dksX6_rightFor_1 17 rfl rfl)
theorem dX6_rightFor_43 : decode cX6_rightFor 43 = .ok (.iaload, 1) := dk_46 (dk_at dksX6_rightFor_1 19 rfl rfl)
theorem dX6_rightFor_44 : decode cX6_rightFor 44 = .ok (.iload_n 2, 1) := dk_28 (dk_at dksX6_rightFor_1 20 rfl rfl)
theorem dX6_rightFor_45 : decode cX6_rightFor 45 = .ok (.if_icmp .ne 17, 3) := dk_160 0 17 (dk_at dksX6_rightFor_1 21 rfl rfl)
theorem dX6_rightFor_48 : decode cX6_rightFor 48 = .ok (.aload_n 0, 1) := dk_42 (dk_at dksX6_rightFor_2 0 rfl rfl)
theorem dX6_rightFor_49 : decode cX6_rightFor 49 = .ok (.iload 5, 2) := dk_21 5 (dk_at dksX6_rightFor_2 1 rfl rfl)
theorem dX6_rightFor_51 : decode cX6_rightFor 51 = .ok (.iload_n 3, 1) := dk_29 (dk_at dksX6_rightFor_2 3 rfl rfl)
theorem dX6_rightFor_52 : decode cX6_rightFor 52 = .ok (.invokevirtual 336, 3) := dk_182 1 80 (dk_at dksX6_rightFor_2 4 rfl rfl)
theorem dX6_rightFor_55 : decode cX6_rightFor 55 = .ok (.ifCond .eq 7, 3) := dk_153 0 7 (dk_at dksX6_rightFor_2 7 rfl rfl)
theorem dX6_rightFor_58 : decode cX6_rightFor 58 = .ok (.iconst 1, 1) := dk_4 (dk_at dksX6_rightFor_2 10 rfl rfl)
theorem dX6_rightFor_59 : decode cX6_rightFor 59 = .ok (.goto 4, 3) := dk_167 0 4 (dk_at dksX6_rightFor_2 11 rfl rfl)
theorem dX6_rightFor_62 : decode cX6_rightFor 62 = .ok (.iconst 0, 1) := dk_3 (dk_at dksX6_rightFor_2 14 rfl rfl)
theorem dX6_rightFor_63 : decode cX6_rightFor 63 = .ok (.iadd, 1) := dk_96 (dk_at dksX6_rightFor_2 15 rfl rfl)
theorem dX6_rightFor_64 : decode cX6_rightFor 64 = .ok (.istore 4, 2) := dk_54 4 (dk_at dksX6_rightFor_2 16 rfl rfl)
theorem dX6_rightFor_66 : decode cX6_rightFor 66 = .ok (.iinc 5 1, 3) := dk_132 5 1 (dk_at dksX6_rightFor_2 18 rfl rfl)
theorem dX6_rightFor_69 : decode cX6_rightFor 69 = .ok (.goto (-63), 3) := dk_167 255 193 (dk_at dksX6_rightFor_2 21 rfl rfl)
theorem dX6_rightFor_72 : decode cX6_rightFor 72 = .ok (.iload 4, 2) := dk_21 4 (dk_at dksX6_rightFor_3 0 rfl rfl)
theorem dX6_rightFor_74 : decode cX6_rightFor 74 = .ok (.ireturn, 1) := dk_172 (dk_at dksX6_rightFor_3 2 rfl rfl)
abbrev cX6_restless : ByteArray := prog_15_method_89_code
def yX6_restless : MethodName := ⟨RX6, "restless", "(I)I"⟩
def dkwX6_restless_4 : List UInt8 := [182, 0, 59, 172]
abbrev dktX6_restless_4 : List UInt8 := dkwX6_restless_4 ++ []
def dkwX6_restless_3 : List UInt8 := [153, 0, 7, 4, 167, 0, 4, 3, 96, 62, 132, 5, 1, 167, 255, 226, 132, 4, 1, 167, 255, 205, 42, 29]
abbrev dktX6_restless_3 : List UInt8 := dkwX6_restless_3 ++ dktX6_restless_4
def dkwX6_restless_2 : List UInt8 := [162, 0, 45, 3, 54, 5, 21, 5, 21, 4, 162, 0, 29, 29, 42, 21, 4, 21, 5, 27, 182, 1, 129]
abbrev dktX6_restless_2 : List UInt8 := dkwX6_restless_2 ++ dktX6_restless_3
def dkwX6_restless_1 : List UInt8 := [158, 0, 9, 42, 28, 182, 0, 55, 172, 3, 62, 3, 54, 4, 21, 4, 42, 180, 1, 47, 180, 0, 193]
abbrev dktX6_restless_1 : List UInt8 := dkwX6_restless_1 ++ dktX6_restless_2
def dkwX6_restless_0 : List UInt8 := [42, 3, 181, 0, 49, 42, 42, 180, 1, 47, 198, 0, 7, 4, 167, 0, 4, 3, 27, 182, 1, 98, 61, 28]
abbrev dktX6_restless_0 : List UInt8 := dkwX6_restless_0 ++ dktX6_restless_1
theorem dksX6_restless_0 : cX6_restless.data.toList.drop 0 = dktX6_restless_0 := by decide +kernel
theorem dksX6_restless_1 : cX6_restless.data.toList.drop 24 = dktX6_restless_1 := dk_seg dksX6_restless_0 24 rfl rfl
theorem dksX6_restless_2 : cX6_restless.data.toList.drop 47 = dktX6_restless_2 := dk_seg dksX6_restless_1 23 rfl rfl
theorem dksX6_restless_3 : cX6_restless.data.toList.drop 70 = dktX6_restless_3 := dk_seg dksX6_restless_2 23 rfl rfl
theorem dksX6_restless_4 : cX6_restless.data.toList.drop 94 = dktX6_restless_4 := dk_seg dksX6_restless_3 24 rfl rfl
theorem dX6_restless_0 : decode cX6_restless 0 = .ok (.aload_n 0, 1) := dk_42 (dk_at dksX6_restless_0 0 rfl rfl)
theorem dX6_restless_1 : decode cX6_restless 1 = .ok (.iconst 0, 1) := dk_3 (dk_at dksX6_restless_0 1 rfl rfl)
theorem dX6_restless_2 : decode cX6_restless 2 = .ok (.putfield 49, 3) := dk_181 0 49 (dk_at dksX6_restless_0 2 rfl rfl)
theorem dX6_restless_5 : decode cX6_restless 5 = .ok (.aload_n 0, 1) := dk_42 (dk_at dksX6_restless_0 5 rfl rfl)
theorem dX6_restless_6 : decode cX6_restless 6 = .ok (.aload_n 0, 1) := dk_42 (dk_at dksX6_restless_0 6 rfl rfl)
theorem dX6_restless_7 : decode cX6_restless 7 = .ok (.getfield 303, 3) := dk_180 1 47 (dk_at dksX6_restless_0 7 rfl rfl)
theorem dX6_restless_10 : decode cX6_restless 10 = .ok (.ifnull 7, 3) := dk_198 0 7 (dk_at dksX6_restless_0 10 rfl rfl)
theorem dX6_restless_13 : decode cX6_restless 13 = .ok (.iconst 1, 1) := dk_4 (dk_at dksX6_restless_0 13 rfl rfl)
theorem dX6_restless_14 : decode cX6_restless 14 = .ok (.goto 4, 3) := dk_167 0 4 (dk_at dksX6_restless_0 14 rfl rfl)
theorem dX6_restless_17 : decode cX6_restless 17 = .ok (.iconst 0, 1) := dk_3 (dk_at dksX6_restless_0 17 rfl rfl)
theorem dX6_restless_18 : decode cX6_restless 18 = .ok (.iload_n 1, 1) := dk_27 (dk_at dksX6_restless_0 18 rfl rfl)
theorem dX6_restless_19 : decode cX6_restless 19 = .ok (.invokevirtual 354, 3) := dk_182 1 98 (dk_at dksX6_restless_0 19 rfl rfl)
theorem dX6_restless_22 : decode cX6_restless 22 = .ok (.istore_n 2, 1) := dk_61 (dk_at dksX6_restless_0 22 rfl rfl)
theorem dX6_restless_23 : decode cX6_restless 23 = .ok (.iload_n 2, 1) := dk_28 (dk_at dksX6_restless_0 23 rfl rfl)
theorem dX6_restless_24 : decode cX6_restless 24 = .ok (.ifCond .le 9, 3) := dk_158 0 9 (dk_at dksX6_restless_1 0 rfl rfl)
theorem dX6_restless_27 : decode cX6_restless 27 = .ok (.aload_n 0, 1) := dk_42 (dk_at dksX6_restless_1 3 rfl rfl)
theorem dX6_restless_28 : decode cX6_restless 28 = .ok (.iload_n 2, 1) := dk_28 (dk_at dksX6_restless_1 4 rfl rfl)
theorem dX6_restless_29 : decode cX6_restless 29 = .ok (.invokevirtual 55, 3) := dk_182 0 55 (dk_at dksX6_restless_1 5 rfl rfl)
theorem dX6_restless_32 : decode cX6_restless 32 = .ok (.ireturn, 1) := dk_172 (dk_at dksX6_restless_1 8 rfl rfl)
theorem dX6_restless_33 : decode cX6_restless 33 = .ok (.iconst 0, 1) := dk_3 (dk_at dksX6_restless_1 9 rfl rfl)
theorem dX6_restless_34 : decode cX6_restless 34 = .ok (.istore_n 3, 1) := dk_62 (dk_at dksX6_restless_1 10 rfl rfl)
theorem dX6_restless_35 : decode cX6_restless 35 = .ok (.iconst 0, 1) := dk_3 (dk_at dksX6_restless_1 11 rfl rfl)
theorem dX6_restless_36 : decode cX6_restless 36 = .ok (.istore 4, 2) := dk_54 4 (dk_at dksX6_restless_1 12 rfl rfl)
theorem dX6_restless_38 : decode cX6_restless 38 = .ok (.iload 4, 2) := dk_21 4 (dk_at dksX6_restless_1 14 rfl rfl)
theorem dX6_restless_40 : decode cX6_restless 40 = .ok (.aload_n 0, 1) := dk_42 (dk_at dksX6_restless_1 16 rfl rfl)
theorem dX6_restless_41 : decode cX6_restless 41 = .ok (.getfield 303, 3) := dk_180 1 47 (dk_at dksX6_restless_1 17 rfl rfl)
theorem dX6_restless_44 : decode cX6_restless 44 = .ok (.getfield 193, 3) := dk_180 0 193 (dk_at dksX6_restless_1 20 rfl rfl)
theorem dX6_restless_47 : decode cX6_restless 47 = .ok (.if_icmp .ge 45, 3) := dk_162 0 45 (dk_at dksX6_restless_2 0 rfl rfl)
theorem dX6_restless_50 : decode cX6_restless 50 = .ok (.iconst 0, 1) := dk_3 (dk_at dksX6_restless_2 3 rfl rfl)
theorem dX6_restless_51 : decode cX6_restless 51 = .ok (.istore 5, 2) := dk_54 5 (dk_at dksX6_restless_2 4 rfl rfl)
theorem dX6_restless_53 : decode cX6_restless 53 = .ok (.iload 5, 2) := dk_21 5 (dk_at dksX6_restless_2 6 rfl rfl)
theorem dX6_restless_55 : decode cX6_restless 55 = .ok (.iload 4, 2) := dk_21 4 (dk_at dksX6_restless_2 8 rfl rfl)
theorem dX6_restless_57 : decode cX6_restless 57 = .ok (.if_icmp .ge 29, 3) := dk_162 0 29 (dk_at dksX6_restless_2 10 rfl rfl)
theorem dX6_restless_60 : decode cX6_restless 60 = .ok (.iload_n 3, 1) := dk_29 (dk_at dksX6_restless_2 13 rfl rfl)
theorem dX6_restless_61 : decode cX6_restless 61 = .ok (.aload_n 0, 1) := dk_42 (dk_at dksX6_restless_2 14 rfl rfl)
theorem dX6_restless_62 : decode cX6_restless 62 = .ok (.iload 4, 2) := dk_21 4 (dk_at dksX6_restless_2 15 rfl rfl)
theorem dX6_restless_64 : decode cX6_restless 64 = .ok (.iload 5, 2) := dk_21 5 (dk_at dksX6_restless_2 17 rfl rfl)
theorem dX6_restless_66 : decode cX6_restless 66 = .ok (.iload_n 1, 1) := dk_27 (dk_at dksX6_restless_2 19 rfl rfl)
theorem dX6_restless_67 : decode cX6_restless 67 = .ok (.invokevirtual 385, 3) := dk_182 1 129 (dk_at dksX6_restless_2 20 rfl rfl)
theorem dX6_restless_70 : decode cX6_restless 70 = .ok (.ifCond .eq 7, 3) := dk_153 0 7 (dk_at dksX6_restless_3 0 rfl rfl)
theorem dX6_restless_73 : decode cX6_restless 73 = .ok (.iconst 1, 1) := dk_4 (dk_at dksX6_restless_3 3 rfl rfl)
theorem dX6_restless_74 : decode cX6_restless 74 = .ok (.goto 4, 3) := dk_167 0 4 (dk_at dksX6_restless_3 4 rfl rfl)
theorem dX6_restless_77 : decode cX6_restless 77 = .ok (.iconst 0, 1) := dk_3 (dk_at dksX6_restless_3 7 rfl rfl)
theorem dX6_restless_78 : decode cX6_restless 78 = .ok (.iadd, 1) := dk_96 (dk_at dksX6_restless_3 8 rfl rfl)
theorem dX6_restless_79 : decode cX6_restless 79 = .ok (.istore_n 3, 1) := dk_62 (dk_at dksX6_restless_3 9 rfl rfl)
theorem dX6_restless_80 : decode cX6_restless 80 = .ok (.iinc 5 1, 3) := dk_132 5 1 (dk_at dksX6_restless_3 10 rfl rfl)
theorem dX6_restless_83 : decode cX6_restless 83 = .ok (.goto (-30), 3) := dk_167 255 226 (dk_at dksX6_restless_3 13 rfl rfl)
theorem dX6_restless_86 : decode cX6_restless 86 = .ok (.iinc 4 1, 3) := dk_132 4 1 (dk_at dksX6_restless_3 16 rfl rfl)
theorem dX6_restless_89 : decode cX6_restless 89 = .ok (.goto (-51), 3) := dk_167 255 205 (dk_at dksX6_restless_3 19 rfl rfl)
theorem dX6_restless_92 : decode cX6_restless 92 = .ok (.aload_n 0, 1) := dk_42 (dk_at dksX6_restless_3 22 rfl rfl)
theorem dX6_restless_93 : decode cX6_restless 93 = .ok (.iload_n 3, 1) := dk_29 (dk_at dksX6_restless_3 23 rfl rfl)
theorem dX6_restless_94 : decode cX6_restless 94 = .ok (.invokevirtual 59, 3) := dk_182 0 59 (dk_at dksX6_restless_4 0 rfl rfl)
theorem dX6_restless_97 : decode cX6_restless 97 = .ok (.ireturn, 1) := dk_172 (dk_at dksX6_restless_4 3 rfl rfl)
abbrev cX6_moveFor : ByteArray := prog_15_method_90_code
def yX6_moveFor : MethodName := ⟨RX6, "moveFor", "(II)I"⟩
def dkwX6_moveFor_5 : List UInt8 := [167, 255, 187, 42, 21, 4, 182, 0, 59, 172]
abbrev dktX6_moveFor_5 : List UInt8 := dkwX6_moveFor_5 ++ []
def dkwX6_moveFor_4 : List UInt8 := [54, 7, 21, 7, 21, 5, 163, 0, 6, 167, 0, 11, 21, 7, 54, 5, 21, 6, 54, 4, 132, 6, 1]
abbrev dktX6_moveFor_4 : List UInt8 := dkwX6_moveFor_4 ++ dktX6_moveFor_5
def dkwX6_moveFor_3 : List UInt8 := [16, 254, 159, 0, 6, 167, 0, 39, 42, 180, 0, 21, 27, 21, 6, 79, 42, 28, 182, 1, 102, 184, 1, 105]
abbrev dktX6_moveFor_3 : List UInt8 := dkwX6_moveFor_3 ++ dktX6_moveFor_4
def dkwX6_moveFor_2 : List UInt8 := [54, 6, 21, 6, 42, 180, 1, 47, 180, 0, 159, 162, 0, 63, 42, 182, 1, 86, 42, 21, 6, 182, 1, 64]
abbrev dktX6_moveFor_2 : List UInt8 := dkwX6_moveFor_2 ++ dktX6_moveFor_3
def dkwX6_moveFor_1 : List UInt8 := [182, 0, 55, 172, 42, 182, 1, 86, 16, 254, 54, 4, 42, 28, 182, 1, 102, 184, 1, 105, 54, 5, 3]
abbrev dktX6_moveFor_1 : List UInt8 := dkwX6_moveFor_1 ++ dktX6_moveFor_2
def dkwX6_moveFor_0 : List UInt8 := [42, 3, 181, 0, 49, 42, 42, 27, 182, 1, 83, 28, 182, 1, 98, 62, 29, 158, 0, 9, 42, 29]
abbrev dktX6_moveFor_0 : List UInt8 := dkwX6_moveFor_0 ++ dktX6_moveFor_1
theorem dksX6_moveFor_0 : cX6_moveFor.data.toList.drop 0 = dktX6_moveFor_0 := by decide +kernel
theorem dksX6_moveFor_1 : cX6_moveFor.data.toList.drop 22 = dktX6_moveFor_1 := dk_seg dksX6_moveFor_0 22 rfl rfl
theorem dksX6_moveFor_2 : cX6_moveFor.data.toList.drop 45 = dktX6_moveFor_2 := dk_seg dksX6_moveFor_1 23 rfl rfl
theorem dksX6_moveFor_3 : cX6_moveFor.data.toList.drop 69 = dktX6_moveFor_3 := dk_seg dksX6_moveFor_2 24 rfl rfl
theorem dksX6_moveFor_4 : cX6_moveFor.data.toList.drop 93 = dktX6_moveFor_4 := dk_seg dksX6_moveFor_3 24 rfl rfl
theorem dksX6_moveFor_5 : cX6_moveFor.data.toList.drop 116 = dktX6_moveFor_5 := dk_seg dksX6_moveFor_4 23 rfl rfl
theorem dX6_moveFor_0 : decode cX6_moveFor 0 = .ok (.aload_n 0, 1) := dk_42 (dk_at dksX6_moveFor_0 0 rfl rfl)
theorem dX6_moveFor_1 : decode cX6_moveFor 1 = .ok (.iconst 0, 1) := dk_3 (dk_at dksX6_moveFor_0 1 rfl rfl)
theorem dX6_moveFor_2 : decode cX6_moveFor 2 = .ok (.putfield 49, 3) := dk_181 0 49 (dk_at dksX6_moveFor_0 2 rfl rfl)
theorem dX6_moveFor_5 : decode cX6_moveFor 5 = .ok (.aload_n 0, 1) := dk_42 (dk_at dksX6_moveFor_0 5 rfl rfl)
theorem dX6_moveFor_6 : decode cX6_moveFor 6 = .ok (.aload_n 0, 1) := dk_42 (dk_at dksX6_moveFor_0 6 rfl rfl)
theorem dX6_moveFor_7 : decode cX6_moveFor 7 = .ok (.iload_n 1, 1) := dk_27 (dk_at dksX6_moveFor_0 7 rfl rfl)
theorem dX6_moveFor_8 : decode cX6_moveFor 8 = .ok (.invokevirtual 339, 3) := dk_182 1 83 (dk_at dksX6_moveFor_0 8 rfl rfl)
theorem dX6_moveFor_11 : decode cX6_moveFor 11 = .ok (.iload_n 2, 1) := dk_28 (dk_at dksX6_moveFor_0 11 rfl rfl)
theorem dX6_moveFor_12 : decode cX6_moveFor 12 = .ok (.invokevirtual 354, 3) := dk_182 1 98 (dk_at dksX6_moveFor_0 12 rfl rfl)
theorem dX6_moveFor_15 : decode cX6_moveFor 15 = .ok (.istore_n 3, 1) := dk_62 (dk_at dksX6_moveFor_0 15 rfl rfl)
theorem dX6_moveFor_16 : decode cX6_moveFor 16 = .ok (.iload_n 3, 1) := dk_29 (dk_at dksX6_moveFor_0 16 rfl rfl)
theorem dX6_moveFor_17 : decode cX6_moveFor 17 = .ok (.ifCond .le 9, 3) := dk_158 0 9 (dk_at dksX6_moveFor_0 17 rfl rfl)
theorem dX6_moveFor_20 : decode cX6_moveFor 20 = .ok (.aload_n 0, 1) := dk_42 (dk_at dksX6_moveFor_0 20 rfl rfl)
theorem dX6_moveFor_21 : decode cX6_moveFor 21 = .ok (.iload_n 3, 1) := dk_29 (dk_at dksX6_moveFor_0 21 rfl rfl)
theorem dX6_moveFor_22 : decode cX6_moveFor 22 = .ok (.invokevirtual 55, 3) := dk_182 0 55 (dk_at dksX6_moveFor_1 0 rfl rfl)
theorem dX6_moveFor_25 : decode cX6_moveFor 25 = .ok (.ireturn, 1) := dk_172 (dk_at dksX6_moveFor_1 3 rfl rfl)
theorem dX6_moveFor_26 : decode cX6_moveFor 26 = .ok (.aload_n 0, 1) := dk_42 (dk_at dksX6_moveFor_1 4 rfl rfl)
theorem dX6_moveFor_27 : decode cX6_moveFor 27 = .ok (.invokevirtual 342, 3) := dk_182 1 86 (dk_at dksX6_moveFor_1 5 rfl rfl)
theorem dX6_moveFor_30 : decode cX6_moveFor 30 = .ok (.bipush (-2), 2) := dk_16 254 (dk_at dksX6_moveFor_1 8 rfl rfl)
theorem dX6_moveFor_32 : decode cX6_moveFor 32 = .ok (.istore 4, 2) := dk_54 4 (dk_at dksX6_moveFor_1 10 rfl rfl)
theorem dX6_moveFor_34 : decode cX6_moveFor 34 = .ok (.aload_n 0, 1) := dk_42 (dk_at dksX6_moveFor_1 12 rfl rfl)
theorem dX6_moveFor_35 : decode cX6_moveFor 35 = .ok (.iload_n 2, 1) := dk_28 (dk_at dksX6_moveFor_1 13 rfl rfl)
theorem dX6_moveFor_36 : decode cX6_moveFor 36 = .ok (.invokevirtual 358, 3) := dk_182 1 102 (dk_at dksX6_moveFor_1 14 rfl rfl)
theorem dX6_moveFor_39 : decode cX6_moveFor 39 = .ok (.invokestatic 361, 3) := dk_184 1 105 (dk_at dksX6_moveFor_1 17 rfl rfl)
theorem dX6_moveFor_42 : decode cX6_moveFor 42 = .ok (.istore 5, 2) := dk_54 5 (dk_at dksX6_moveFor_1 20 rfl rfl)
theorem dX6_moveFor_44 : decode cX6_moveFor 44 = .ok (.iconst 0, 1) := dk_3 (dk_at dksX6_moveFor_1 22 rfl rfl)
theorem dX6_moveFor_45 : decode cX6_moveFor 45 = .ok (.istore 6, 2) := dk_54 6 (dk_at dksX6_moveFor_2 0 rfl rfl)
theorem dX6_moveFor_47 : decode cX6_moveFor 47 = .ok (.iload 6, 2) := dk_21 6 (dk_at dksX6_moveFor_2 2 rfl rfl)
theorem dX6_moveFor_49 : decode cX6_moveFor 49 = .ok (.aload_n 0, 1) := dk_42 (dk_at dksX6_moveFor_2 4 rfl rfl)
theorem dX6_moveFor_50 : decode cX6_moveFor 50 = .ok (.getfield 303, 3) := dk_180 1 47 (dk_at dksX6_moveFor_2 5 rfl rfl)
theorem dX6_moveFor_53 : decode cX6_moveFor 53 = .ok (.getfield 159, 3) := dk_180 0 159 (dk_at dksX6_moveFor_2 8 rfl rfl)
theorem dX6_moveFor_56 : decode cX6_moveFor 56 = .ok (.if_icmp .ge 63, 3) := dk_162 0 63 (dk_at dksX6_moveFor_2 11 rfl rfl)
theorem dX6_moveFor_59 : decode cX6_moveFor 59 = .ok (.aload_n 0, 1) := dk_42 (dk_at dksX6_moveFor_2 14 rfl rfl)
theorem dX6_moveFor_60 : decode cX6_moveFor 60 = .ok (.invokevirtual 342, 3) := dk_182 1 86 (dk_at dksX6_moveFor_2 15 rfl rfl)
theorem dX6_moveFor_63 : decode cX6_moveFor 63 = .ok (.aload_n 0, 1) := dk_42 (dk_at dksX6_moveFor_2 18 rfl rfl)
theorem dX6_moveFor_64 : decode cX6_moveFor 64 = .ok (.iload 6, 2) := dk_21 6 (dk_at dksX6_moveFor_2 19 rfl rfl)
theorem dX6_moveFor_66 : decode cX6_moveFor 66 = .ok (.invokevirtual 320, 3) := dk_182 1 64 (dk_at dksX6_moveFor_2 21 rfl rfl)
theorem dX6_moveFor_69 : decode cX6_moveFor 69 = .ok (.bipush (-2), 2) := dk_16 254 (dk_at dksX6_moveFor_3 0 rfl rfl)
theorem dX6_moveFor_71 : decode cX6_moveFor 71 = .ok (.if_icmp .eq 6, 3) := dk_159 0 6 (dk_at dksX6_moveFor_3 2 rfl rfl)
theorem dX6_moveFor_74 : decode cX6_moveFor 74 = .ok (.goto 39, 3) := dk_167 0 39 (dk_at dksX6_moveFor_3 5 rfl rfl)
theorem dX6_moveFor_77 : decode cX6_moveFor 77 = .ok (.aload_n 0, 1) := dk_42 (dk_at dksX6_moveFor_3 8 rfl rfl)
theorem dX6_moveFor_78 : decode cX6_moveFor 78 = .ok (.getfield 21, 3) := dk_180 0 21 (dk_at dksX6_moveFor_3 9 rfl rfl)
theorem dX6_moveFor_81 : decode cX6_moveFor 81 = .ok (.iload_n 1, 1) := dk_27 (dk_at dksX6_moveFor_3 12 rfl rfl)
theorem dX6_moveFor_82 : decode cX6_moveFor 82 = .ok (.iload 6, 2) := dk_21 6 (dk_at dksX6_moveFor_3 13 rfl rfl)
theorem dX6_moveFor_84 : decode cX6_moveFor 84 = .ok (.iastore, 1) := dk_79 (dk_at dksX6_moveFor_3 15 rfl rfl)
theorem dX6_moveFor_85 : decode cX6_moveFor 85 = .ok (.aload_n 0, 1) := dk_42 (dk_at dksX6_moveFor_3 16 rfl rfl)
theorem dX6_moveFor_86 : decode cX6_moveFor 86 = .ok (.iload_n 2, 1) := dk_28 (dk_at dksX6_moveFor_3 17 rfl rfl)
theorem dX6_moveFor_87 : decode cX6_moveFor 87 = .ok (.invokevirtual 358, 3) := dk_182 1 102 (dk_at dksX6_moveFor_3 18 rfl rfl)
theorem dX6_moveFor_90 : decode cX6_moveFor 90 = .ok (.invokestatic 361, 3) := dk_184 1 105 (dk_at dksX6_moveFor_3 21 rfl rfl)
theorem dX6_moveFor_93 : decode cX6_moveFor 93 = .ok (.istore 7, 2) := dk_54 7 (dk_at dksX6_moveFor_4 0 rfl rfl)
theorem dX6_moveFor_95 : decode cX6_moveFor 95 = .ok (.iload 7, 2) := dk_21 7 (dk_at dksX6_moveFor_4 2 rfl rfl)
theorem dX6_moveFor_97 : decode cX6_moveFor 97 = .ok (.iload 5, 2) := dk_21 5 (dk_at dksX6_moveFor_4 4 rfl rfl)
theorem dX6_moveFor_99 : decode cX6_moveFor 99 = .ok (.if_icmp .gt 6, 3) := dk_163 0 6 (dk_at dksX6_moveFor_4 6 rfl rfl)
theorem dX6_moveFor_102 : decode cX6_moveFor 102 = .ok (.goto 11, 3) := dk_167 0 11 (dk_at dksX6_moveFor_4 9 rfl rfl)
theorem dX6_moveFor_105 : decode cX6_moveFor 105 = .ok (.iload 7, 2) := dk_21 7 (dk_at dksX6_moveFor_4 12 rfl rfl)
theorem dX6_moveFor_107 : decode cX6_moveFor 107 = .ok (.istore 5, 2) := dk_54 5 (dk_at dksX6_moveFor_4 14 rfl rfl)
theorem dX6_moveFor_109 : decode cX6_moveFor 109 = .ok (.iload 6, 2) := dk_21 6 (dk_at dksX6_moveFor_4 16 rfl rfl)
theorem dX6_moveFor_111 : decode cX6_moveFor 111 = .ok (.istore 4, 2) := dk_54 4 (dk_at dksX6_moveFor_4 18 rfl rfl)
theorem dX6_moveFor_113 : decode cX6_moveFor 113 = .ok (.iinc 6 1, 3) := dk_132 6 1 (dk_at dksX6_moveFor_4 20 rfl rfl)
theorem dX6_moveFor_116 : decode cX6_moveFor 116 = .ok (.goto (-69), 3) := dk_167 255 187 (dk_at dksX6_moveFor_5 0 rfl rfl)
theorem dX6_moveFor_119 : decode cX6_moveFor 119 = .ok (.aload_n 0, 1) := dk_42 (dk_at dksX6_moveFor_5 3 rfl rfl)
theorem dX6_moveFor_120 : decode cX6_moveFor 120 = .ok (.iload 4, 2) := dk_21 4 (dk_at dksX6_moveFor_5 4 rfl rfl)
theorem dX6_moveFor_122 : decode cX6_moveFor 122 = .ok (.invokevirtual 59, 3) := dk_182 0 59 (dk_at dksX6_moveFor_5 6 rfl rfl)
theorem dX6_moveFor_125 : decode cX6_moveFor 125 = .ok (.ireturn, 1) := dk_172 (dk_at dksX6_moveFor_5 9 rfl rfl)
abbrev cX6_bring : ByteArray := prog_15_method_95_code
def yX6_bring : MethodName := ⟨RX6, "bring", "(II)I"⟩
def dkwX6_bring_1 : List UInt8 := [182, 0, 55, 172, 42, 182, 1, 86, 42, 42, 27, 28, 182, 1, 142, 182, 0, 59, 172]
abbrev dktX6_bring_1 : List UInt8 := dkwX6_bring_1 ++ []
def dkwX6_bring_0 : List UInt8 := [42, 3, 181, 0, 49, 42, 42, 27, 182, 1, 95, 28, 182, 1, 98, 62, 29, 158, 0, 9, 42, 29]
abbrev dktX6_bring_0 : List UInt8 := dkwX6_bring_0 ++ dktX6_bring_1
theorem dksX6_bring_0 : cX6_bring.data.toList.drop 0 = dktX6_bring_0 := by decide +kernel
theorem dksX6_bring_1 : cX6_bring.data.toList.drop 22 = dktX6_bring_1 := dk_seg dksX6_bring_0 22 rfl rfl
theorem dX6_bring_0 : decode cX6_bring 0 = .ok (.aload_n 0, 1) := dk_42 (dk_at dksX6_bring_0 0 rfl rfl)
theorem dX6_bring_1 : decode cX6_bring 1 = .ok (.iconst 0, 1) := dk_3 (dk_at dksX6_bring_0 1 rfl rfl)
theorem dX6_bring_2 : decode cX6_bring 2 = .ok (.putfield 49, 3) := dk_181 0 49 (dk_at dksX6_bring_0 2 rfl rfl)
theorem dX6_bring_5 : decode cX6_bring 5 = .ok (.aload_n 0, 1) := dk_42 (dk_at dksX6_bring_0 5 rfl rfl)
theorem dX6_bring_6 : decode cX6_bring 6 = .ok (.aload_n 0, 1) := dk_42 (dk_at dksX6_bring_0 6 rfl rfl)
theorem dX6_bring_7 : decode cX6_bring 7 = .ok (.iload_n 1, 1) := dk_27 (dk_at dksX6_bring_0 7 rfl rfl)
theorem dX6_bring_8 : decode cX6_bring 8 = .ok (.invokevirtual 351, 3) := dk_182 1 95 (dk_at dksX6_bring_0 8 rfl rfl)
theorem dX6_bring_11 : decode cX6_bring 11 = .ok (.iload_n 2, 1) := dk_28 (dk_at dksX6_bring_0 11 rfl rfl)
theorem dX6_bring_12 : decode cX6_bring 12 = .ok (.invokevirtual 354, 3) := dk_182 1 98 (dk_at dksX6_bring_0 12 rfl rfl)
theorem dX6_bring_15 : decode cX6_bring 15 = .ok (.istore_n 3, 1) := dk_62 (dk_at dksX6_bring_0 15 rfl rfl)
theorem dX6_bring_16 : decode cX6_bring 16 = .ok (.iload_n 3, 1) := dk_29 (dk_at dksX6_bring_0 16 rfl rfl)
theorem dX6_bring_17 : decode cX6_bring 17 = .ok (.ifCond .le 9, 3) := dk_158 0 9 (dk_at dksX6_bring_0 17 rfl rfl)
theorem dX6_bring_20 : decode cX6_bring 20 = .ok (.aload_n 0, 1) := dk_42 (dk_at dksX6_bring_0 20 rfl rfl)
theorem dX6_bring_21 : decode cX6_bring 21 = .ok (.iload_n 3, 1) := dk_29 (dk_at dksX6_bring_0 21 rfl rfl)
theorem dX6_bring_22 : decode cX6_bring 22 = .ok (.invokevirtual 55, 3) := dk_182 0 55 (dk_at dksX6_bring_1 0 rfl rfl)
theorem dX6_bring_25 : decode cX6_bring 25 = .ok (.ireturn, 1) := dk_172 (dk_at dksX6_bring_1 3 rfl rfl)
theorem dX6_bring_26 : decode cX6_bring 26 = .ok (.aload_n 0, 1) := dk_42 (dk_at dksX6_bring_1 4 rfl rfl)
theorem dX6_bring_27 : decode cX6_bring 27 = .ok (.invokevirtual 342, 3) := dk_182 1 86 (dk_at dksX6_bring_1 5 rfl rfl)
theorem dX6_bring_30 : decode cX6_bring 30 = .ok (.aload_n 0, 1) := dk_42 (dk_at dksX6_bring_1 8 rfl rfl)
theorem dX6_bring_31 : decode cX6_bring 31 = .ok (.aload_n 0, 1) := dk_42 (dk_at dksX6_bring_1 9 rfl rfl)
theorem dX6_bring_32 : decode cX6_bring 32 = .ok (.iload_n 1, 1) := dk_27 (dk_at dksX6_bring_1 10 rfl rfl)
theorem dX6_bring_33 : decode cX6_bring 33 = .ok (.iload_n 2, 1) := dk_28 (dk_at dksX6_bring_1 11 rfl rfl)
theorem dX6_bring_34 : decode cX6_bring 34 = .ok (.invokevirtual 398, 3) := dk_182 1 142 (dk_at dksX6_bring_1 12 rfl rfl)
theorem dX6_bring_37 : decode cX6_bring 37 = .ok (.invokevirtual 59, 3) := dk_182 0 59 (dk_at dksX6_bring_1 15 rfl rfl)
theorem dX6_bring_40 : decode cX6_bring 40 = .ok (.ireturn, 1) := dk_172 (dk_at dksX6_bring_1 18 rfl rfl)
abbrev cX6_brings : ByteArray := prog_15_method_93_code
def yX6_brings : MethodName := ⟨RX6, "brings", "(II)I"⟩
def dkwX6_brings_9 : List UInt8 := [46, 182, 1, 132, 132, 7, 1, 167, 255, 175, 132, 6, 1, 167, 255, 160, 21, 5, 172]
abbrev dktX6_brings_9 : List UInt8 := dkwX6_brings_9 ++ []
def dkwX6_brings_8 : List UInt8 := [54, 5, 42, 21, 6, 21, 8, 21, 7, 16, 6, 160, 0, 7, 27, 167, 0, 10, 42, 180, 0, 21, 21, 7]
abbrev dktX6_brings_8 : List UInt8 := dkwX6_brings_8 ++ dktX6_brings_9
def dkwX6_brings_7 : List UInt8 := [160, 0, 6, 167, 0, 48, 21, 6, 29, 4, 100, 160, 0, 14, 21, 8, 21, 5, 162, 0, 7, 21, 8]
abbrev dktX6_brings_7 : List UInt8 := dkwX6_brings_7 ++ dktX6_brings_8
def dkwX6_brings_6 : List UInt8 := [163, 0, 80, 42, 180, 0, 36, 21, 6, 16, 7, 104, 21, 7, 96, 46, 54, 8, 21, 8, 17, 39, 15]
abbrev dktX6_brings_6 : List UInt8 := dkwX6_brings_6 ++ dktX6_brings_7
def dkwX6_brings_5 : List UInt8 := [17, 39, 15, 54, 5, 21, 4, 54, 6, 21, 6, 29, 162, 0, 96, 3, 54, 7, 21, 7, 16, 6]
abbrev dktX6_brings_5 : List UInt8 := dkwX6_brings_5 ++ dktX6_brings_6
def dkwX6_brings_4 : List UInt8 := [17, 39, 15, 79, 132, 5, 1, 167, 255, 234, 42, 180, 0, 36, 21, 4, 16, 7, 104, 16, 6, 96, 3, 79]
abbrev dktX6_brings_4 : List UInt8 := dkwX6_brings_4 ++ dktX6_brings_5
def dkwX6_brings_3 : List UInt8 := [132, 5, 1, 167, 255, 191, 3, 54, 5, 21, 5, 29, 16, 7, 104, 162, 0, 19, 42, 180, 0, 36, 21, 5]
abbrev dktX6_brings_3 : List UInt8 := dkwX6_brings_3 ++ dktX6_brings_4
def dkwX6_brings_2 : List UInt8 := [180, 1, 7, 21, 5, 46, 160, 0, 9, 5, 29, 104, 167, 0, 4, 3, 96, 54, 4, 29, 6, 104, 62]
abbrev dktX6_brings_2 : List UInt8 := dkwX6_brings_2 ++ dktX6_brings_3
def dkwX6_brings_1 : List UInt8 := [21, 5, 42, 21, 5, 28, 182, 1, 77, 79, 21, 4, 42, 180, 0, 39, 21, 5, 46, 42, 180, 1, 47]
abbrev dktX6_brings_1 : List UInt8 := dkwX6_brings_1 ++ dktX6_brings_2
def dkwX6_brings_0 : List UInt8 := [4, 62, 3, 54, 4, 3, 54, 5, 21, 5, 42, 180, 1, 47, 180, 0, 241, 162, 0, 59, 42, 180, 0, 39]
abbrev dktX6_brings_0 : List UInt8 := dkwX6_brings_0 ++ dktX6_brings_1
theorem dksX6_brings_0 : cX6_brings.data.toList.drop 0 = dktX6_brings_0 := by decide +kernel
theorem dksX6_brings_1 : cX6_brings.data.toList.drop 24 = dktX6_brings_1 := dk_seg dksX6_brings_0 24 rfl rfl
theorem dksX6_brings_2 : cX6_brings.data.toList.drop 47 = dktX6_brings_2 := dk_seg dksX6_brings_1 23 rfl rfl
theorem dksX6_brings_3 : cX6_brings.data.toList.drop 70 = dktX6_brings_3 := dk_seg dksX6_brings_2 23 rfl rfl
theorem dksX6_brings_4 : cX6_brings.data.toList.drop 94 = dktX6_brings_4 := dk_seg dksX6_brings_3 24 rfl rfl
theorem dksX6_brings_5 : cX6_brings.data.toList.drop 118 = dktX6_brings_5 := dk_seg dksX6_brings_4 24 rfl rfl
theorem dksX6_brings_6 : cX6_brings.data.toList.drop 140 = dktX6_brings_6 := dk_seg dksX6_brings_5 22 rfl rfl
theorem dksX6_brings_7 : cX6_brings.data.toList.drop 163 = dktX6_brings_7 := dk_seg dksX6_brings_6 23 rfl rfl
theorem dksX6_brings_8 : cX6_brings.data.toList.drop 186 = dktX6_brings_8 := dk_seg dksX6_brings_7 23 rfl rfl
theorem dksX6_brings_9 : cX6_brings.data.toList.drop 210 = dktX6_brings_9 := dk_seg dksX6_brings_8 24 rfl rfl
theorem dX6_brings_0 : decode cX6_brings 0 = .ok (.iconst 1, 1) := dk_4 (dk_at dksX6_brings_0 0 rfl rfl)
theorem dX6_brings_1 : decode cX6_brings 1 = .ok (.istore_n 3, 1) := dk_62 (dk_at dksX6_brings_0 1 rfl rfl)
theorem dX6_brings_2 : decode cX6_brings 2 = .ok (.iconst 0, 1) := dk_3 (dk_at dksX6_brings_0 2 rfl rfl)
theorem dX6_brings_3 : decode cX6_brings 3 = .ok (.istore 4, 2) := dk_54 4 (dk_at dksX6_brings_0 3 rfl rfl)
theorem dX6_brings_5 : decode cX6_brings 5 = .ok (.iconst 0, 1) := dk_3 (dk_at dksX6_brings_0 5 rfl rfl)
theorem dX6_brings_6 : decode cX6_brings 6 = .ok (.istore 5, 2) := dk_54 5 (dk_at dksX6_brings_0 6 rfl rfl)
theorem dX6_brings_8 : decode cX6_brings 8 = .ok (.iload 5, 2) := dk_21 5 (dk_at dksX6_brings_0 8 rfl rfl)
theorem dX6_brings_10 : decode cX6_brings 10 = .ok (.aload_n 0, 1) := dk_42 (dk_at dksX6_brings_0 10 rfl rfl)
theorem dX6_brings_11 : decode cX6_brings 11 = .ok (.getfield 303, 3) := dk_180 1 47 (dk_at dksX6_brings_0 11 rfl rfl)
theorem dX6_brings_14 : decode cX6_brings 14 = .ok (.getfield 241, 3) := dk_180 0 241 (dk_at dksX6_brings_0 14 rfl rfl)
theorem dX6_brings_17 : decode cX6_brings 17 = .ok (.if_icmp .ge 59, 3) := dk_162 0 59 (dk_at dksX6_brings_0 17 rfl rfl)
theorem dX6_brings_20 : decode cX6_brings 20 = .ok (.aload_n 0, 1) := dk_42 (dk_at dksX6_brings_0 20 rfl rfl)
theorem dX6_brings_21 : decode cX6_brings 21 = .ok (.getfield 39, 3) := dk_180 0 39 (dk_at dksX6_brings_0 21 rfl rfl)
theorem dX6_brings_24 : decode cX6_brings 24 = .ok (.iload 5, 2) := dk_21 5 (dk_at dksX6_brings_1 0 rfl rfl)
theorem dX6_brings_26 : decode cX6_brings 26 = .ok (.aload_n 0, 1) := dk_42 (dk_at dksX6_brings_1 2 rfl rfl)
theorem dX6_brings_27 : decode cX6_brings 27 = .ok (.iload 5, 2) := dk_21 5 (dk_at dksX6_brings_1 3 rfl rfl)
theorem dX6_brings_29 : decode cX6_brings 29 = .ok (.iload_n 2, 1) := dk_28 (dk_at dksX6_brings_1 5 rfl rfl)
theorem dX6_brings_30 : decode cX6_brings 30 = .ok (.invokevirtual 333, 3) := dk_182 1 77 (dk_at dksX6_brings_1 6 rfl rfl)
theorem dX6_brings_33 : decode cX6_brings 33 = .ok (.iastore, 1) := dk_79 (dk_at dksX6_brings_1 9 rfl rfl)
theorem dX6_brings_34 : decode cX6_brings 34 = .ok (.iload 4, 2) := dk_21 4 (dk_at dksX6_brings_1 10 rfl rfl)
theorem dX6_brings_36 : decode cX6_brings 36 = .ok (.aload_n 0, 1) := dk_42 (dk_at dksX6_brings_1 12 rfl rfl)
theorem dX6_brings_37 : decode cX6_brings 37 = .ok (.getfield 39, 3) := dk_180 0 39 (dk_at dksX6_brings_1 13 rfl rfl)
theorem dX6_brings_40 : decode cX6_brings 40 = .ok (.iload 5, 2) := dk_21 5 (dk_at dksX6_brings_1 16 rfl rfl)
theorem dX6_brings_42 : decode cX6_brings 42 = .ok (.iaload, 1) := dk_46 (dk_at dksX6_brings_1 18 rfl rfl)
theorem dX6_brings_43 : decode cX6_brings 43 = .ok (.aload_n 0, 1) := dk_42 (dk_at dksX6_brings_1 19 rfl rfl)
theorem dX6_brings_44 : decode cX6_brings 44 = .ok (.getfield 303, 3) := dk_180 1 47 (dk_at dksX6_brings_1 20 rfl rfl)
theorem dX6_brings_47 : decode cX6_brings 47 = .ok (.getfield 263, 3) := dk_180 1 7 (dk_at dksX6_brings_2 0 rfl rfl)
theorem dX6_brings_50 : decode cX6_brings 50 = .ok (.iload 5, 2) := dk_21 5 (dk_at dksX6_brings_2 3 rfl rfl)
theorem dX6_brings_52 : decode cX6_brings 52 = .ok (.iaload, 1) := dk_46 (dk_at dksX6_brings_2 5 rfl rfl)
theorem dX6_brings_53 : decode cX6_brings 53 = .ok (.if_icmp .ne 9, 3) := dk_160 0 9 (dk_at dksX6_brings_2 6 rfl rfl)
theorem dX6_brings_56 : decode cX6_brings 56 = .ok (.iconst 2, 1) := dk_5 (dk_at dksX6_brings_2 9 rfl rfl)
theorem dX6_brings_57 : decode cX6_brings 57 = .ok (.iload_n 3, 1) := dk_29 (dk_at dksX6_brings_2 10 rfl rfl)
theorem dX6_brings_58 : decode cX6_brings 58 = .ok (.imul, 1) := dk_104 (dk_at dksX6_brings_2 11 rfl rfl)
theorem dX6_brings_59 : decode cX6_brings 59 = .ok (.goto 4, 3) := dk_167 0 4 (dk_at dksX6_brings_2 12 rfl rfl)
theorem dX6_brings_62 : decode cX6_brings 62 = .ok (.iconst 0, 1) := dk_3 (dk_at dksX6_brings_2 15 rfl rfl)
theorem dX6_brings_63 : decode cX6_brings 63 = .ok (.iadd, 1) := dk_96 (dk_at dksX6_brings_2 16 rfl rfl)
theorem dX6_brings_64 : decode cX6_brings 64 = .ok (.istore 4, 2) := dk_54 4 (dk_at dksX6_brings_2 17 rfl rfl)
theorem dX6_brings_66 : decode cX6_brings 66 = .ok (.iload_n 3, 1) := dk_29 (dk_at dksX6_brings_2 19 rfl rfl)
theorem dX6_brings_67 : decode cX6_brings 67 = .ok (.iconst 3, 1) := dk_6 (dk_at dksX6_brings_2 20 rfl rfl)
theorem dX6_brings_68 : decode cX6_brings 68 = .ok (.imul, 1) := dk_104 (dk_at dksX6_brings_2 21 rfl rfl)
theorem dX6_brings_69 : decode cX6_brings 69 = .ok (.istore_n 3, 1) := dk_62 (dk_at dksX6_brings_2 22 rfl rfl)
theorem dX6_brings_70 : decode cX6_brings 70 = .ok (.iinc 5 1, 3) := dk_132 5 1 (dk_at dksX6_brings_3 0 rfl rfl)
theorem dX6_brings_73 : decode cX6_brings 73 = .ok (.goto (-65), 3) := dk_167 255 191 (dk_at dksX6_brings_3 3 rfl rfl)
theorem dX6_brings_76 : decode cX6_brings 76 = .ok (.iconst 0, 1) := dk_3 (dk_at dksX6_brings_3 6 rfl rfl)
theorem dX6_brings_77 : decode cX6_brings 77 = .ok (.istore 5, 2) := dk_54 5 (dk_at dksX6_brings_3 7 rfl rfl)
theorem dX6_brings_79 : decode cX6_brings 79 = .ok (.iload 5, 2) := dk_21 5 (dk_at dksX6_brings_3 9 rfl rfl)
theorem dX6_brings_81 : decode cX6_brings 81 = .ok (.iload_n 3, 1) := dk_29 (dk_at dksX6_brings_3 11 rfl rfl)
theorem dX6_brings_82 : decode cX6_brings 82 = .ok (.bipush 7, 2) := dk_16 7 (dk_at dksX6_brings_3 12 rfl rfl)
theorem dX6_brings_84 : decode cX6_brings 84 = .ok (.imul, 1) := dk_104 (dk_at dksX6_brings_3 14 rfl rfl)
theorem dX6_brings_85 : decode cX6_brings 85 = .ok (.if_icmp .ge 19, 3) := dk_162 0 19 (dk_at dksX6_brings_3 15 rfl rfl)
theorem dX6_brings_88 : decode cX6_brings 88 = .ok (.aload_n 0, 1) := dk_42 (dk_at dksX6_brings_3 18 rfl rfl)
theorem dX6_brings_89 : decode cX6_brings 89 = .ok (.getfield 36, 3) := dk_180 0 36 (dk_at dksX6_brings_3 19 rfl rfl)
theorem dX6_brings_92 : decode cX6_brings 92 = .ok (.iload 5, 2) := dk_21 5 (dk_at dksX6_brings_3 22 rfl rfl)
theorem dX6_brings_94 : decode cX6_brings 94 = .ok (.sipush 9999, 3) := dk_17 39 15 (dk_at dksX6_brings_4 0 rfl rfl)
theorem dX6_brings_97 : decode cX6_brings 97 = .ok (.iastore, 1) := dk_79 (dk_at dksX6_brings_4 3 rfl rfl)
theorem dX6_brings_98 : decode cX6_brings 98 = .ok (.iinc 5 1, 3) := dk_132 5 1 (dk_at dksX6_brings_4 4 rfl rfl)
theorem dX6_brings_101 : decode cX6_brings 101 = .ok (.goto (-22), 3) := dk_167 255 234 (dk_at dksX6_brings_4 7 rfl rfl)
theorem dX6_brings_104 : decode cX6_brings 104 = .ok (.aload_n 0, 1) := dk_42 (dk_at dksX6_brings_4 10 rfl rfl)
theorem dX6_brings_105 : decode cX6_brings 105 = .ok (.getfield 36, 3) := dk_180 0 36 (dk_at dksX6_brings_4 11 rfl rfl)
theorem dX6_brings_108 : decode cX6_brings 108 = .ok (.iload 4, 2) := dk_21 4 (dk_at dksX6_brings_4 14 rfl rfl)
theorem dX6_brings_110 : decode cX6_brings 110 = .ok (.bipush 7, 2) := dk_16 7 (dk_at dksX6_brings_4 16 rfl rfl)
theorem dX6_brings_112 : decode cX6_brings 112 = .ok (.imul, 1) := dk_104 (dk_at dksX6_brings_4 18 rfl rfl)
theorem dX6_brings_113 : decode cX6_brings 113 = .ok (.bipush 6, 2) := dk_16 6 (dk_at dksX6_brings_4 19 rfl rfl)
theorem dX6_brings_115 : decode cX6_brings 115 = .ok (.iadd, 1) := dk_96 (dk_at dksX6_brings_4 21 rfl rfl)
theorem dX6_brings_116 : decode cX6_brings 116 = .ok (.iconst 0, 1) := dk_3 (dk_at dksX6_brings_4 22 rfl rfl)
theorem dX6_brings_117 : decode cX6_brings 117 = .ok (.iastore, 1) := dk_79 (dk_at dksX6_brings_4 23 rfl rfl)
theorem dX6_brings_118 : decode cX6_brings 118 = .ok (.sipush 9999, 3) := dk_17 39 15 (dk_at dksX6_brings_5 0 rfl rfl)
theorem dX6_brings_121 : decode cX6_brings 121 = .ok (.istore 5, 2) := dk_54 5 (dk_at dksX6_brings_5 3 rfl rfl)
theorem dX6_brings_123 : decode cX6_brings 123 = .ok (.iload 4, 2) := dk_21 4 (dk_at dksX6_brings_5 5 rfl rfl)
theorem dX6_brings_125 : decode cX6_brings 125 = .ok (.istore 6, 2) := dk_54 6 (dk_at dksX6_brings_5 7 rfl rfl)
theorem dX6_brings_127 : decode cX6_brings 127 = .ok (.iload 6, 2) := dk_21 6 (dk_at dksX6_brings_5 9 rfl rfl)
theorem dX6_brings_129 : decode cX6_brings 129 = .ok (.iload_n 3, 1) := dk_29 (dk_at dksX6_brings_5 11 rfl rfl)
theorem dX6_brings_130 : decode cX6_brings 130 = .ok (.if_icmp .ge 96, 3) := dk_162 0 96 (dk_at dksX6_brings_5 12 rfl rfl)
theorem dX6_brings_133 : decode cX6_brings 133 = .ok (.iconst 0, 1) := dk_3 (dk_at dksX6_brings_5 15 rfl rfl)
theorem dX6_brings_134 : decode cX6_brings 134 = .ok (.istore 7, 2) := dk_54 7 (dk_at dksX6_brings_5 16 rfl rfl)
theorem dX6_brings_136 : decode cX6_brings 136 = .ok (.iload 7, 2) := dk_21 7 (dk_at dksX6_brings_5 18 rfl rfl)
theorem dX6_brings_138 : decode cX6_brings 138 = .ok (.bipush 6, 2) := dk_16 6 (dk_at dksX6_brings_5 20 rfl rfl)
theorem dX6_brings_140 : decode cX6_brings 140 = .ok (.if_icmp .gt 80, 3) := dk_163 0 80 (dk_at dksX6_brings_6 0 rfl rfl)
theorem dX6_brings_143 : decode cX6_brings 143 = .ok (.aload_n 0, 1) := dk_42 (dk_at dksX6_brings_6 3 rfl rfl)
theorem dX6_brings_144 : decode cX6_brings 144 = .ok (.getfield 36, 3) := dk_180 0 36 (dk_at dksX6_brings_6 4 rfl rfl)
theorem dX6_brings_147 : decode cX6_brings 147 = .ok (.iload 6, 2) := dk_21 6 (dk_at dksX6_brings_6 7 rfl rfl)
theorem dX6_brings_149 : decode cX6_brings 149 = .ok (.bipush 7, 2) := dk_16 7 (dk_at dksX6_brings_6 9 rfl rfl)
theorem dX6_brings_151 : decode cX6_brings 151 = .ok (.imul, 1) := dk_104 (dk_at dksX6_brings_6 11 rfl rfl)
theorem dX6_brings_152 : decode cX6_brings 152 = .ok (.iload 7, 2) := dk_21 7 (dk_at dksX6_brings_6 12 rfl rfl)
theorem dX6_brings_154 : decode cX6_brings 154 = .ok (.iadd, 1) := dk_96 (dk_at dksX6_brings_6 14 rfl rfl)
theorem dX6_brings_155 : decode cX6_brings 155 = .ok (.iaload, 1) := dk_46 (dk_at dksX6_brings_6 15 rfl rfl)
theorem dX6_brings_156 : decode cX6_brings 156 = .ok (.istore 8, 2) := dk_54 8 (dk_at dksX6_brings_6 16 rfl rfl)
theorem dX6_brings_158 : decode cX6_brings 158 = .ok (.iload 8, 2) := dk_21 8 (dk_at dksX6_brings_6 18 rfl rfl)
theorem dX6_brings_160 : decode cX6_brings 160 = .ok (.sipush 9999, 3) := dk_17 39 15 (dk_at dksX6_brings_6 20 rfl rfl)
theorem dX6_brings_163 : decode cX6_brings 163 = .ok (.if_icmp .ne 6, 3) := dk_160 0 6 (dk_at dksX6_brings_7 0 rfl rfl)
theorem dX6_brings_166 : decode cX6_brings 166 = .ok (.goto 48, 3) := dk_167 0 48 (dk_at dksX6_brings_7 3 rfl rfl)
theorem dX6_brings_169 : decode cX6_brings 169 = .ok (.iload 6, 2) := dk_21 6 (dk_at dksX6_brings_7 6 rfl rfl)
theorem dX6_brings_171 : decode cX6_brings 171 = .ok (.iload_n 3, 1) := dk_29 (dk_at dksX6_brings_7 8 rfl rfl)
theorem dX6_brings_172 : decode cX6_brings 172 = .ok (.iconst 1, 1) := dk_4 (dk_at dksX6_brings_7 9 rfl rfl)
theorem dX6_brings_173 : decode cX6_brings 173 = .ok (.isub, 1) := dk_100 (dk_at dksX6_brings_7 10 rfl rfl)
theorem dX6_brings_174 : decode cX6_brings 174 = .ok (.if_icmp .ne 14, 3) := dk_160 0 14 (dk_at dksX6_brings_7 11 rfl rfl)
theorem dX6_brings_177 : decode cX6_brings 177 = .ok (.iload 8, 2) := dk_21 8 (dk_at dksX6_brings_7 14 rfl rfl)
theorem dX6_brings_179 : decode cX6_brings 179 = .ok (.iload 5, 2) := dk_21 5 (dk_at dksX6_brings_7 16 rfl rfl)
theorem dX6_brings_181 : decode cX6_brings 181 = .ok (.if_icmp .ge 7, 3) := dk_162 0 7 (dk_at dksX6_brings_7 18 rfl rfl)
theorem dX6_brings_184 : decode cX6_brings 184 = .ok (.iload 8, 2) := dk_21 8 (dk_at dksX6_brings_7 21 rfl rfl)
theorem dX6_brings_186 : decode cX6_brings 186 = .ok (.istore 5, 2) := dk_54 5 (dk_at dksX6_brings_8 0 rfl rfl)
theorem dX6_brings_188 : decode cX6_brings 188 = .ok (.aload_n 0, 1) := dk_42 (dk_at dksX6_brings_8 2 rfl rfl)
theorem dX6_brings_189 : decode cX6_brings 189 = .ok (.iload 6, 2) := dk_21 6 (dk_at dksX6_brings_8 3 rfl rfl)
theorem dX6_brings_191 : decode cX6_brings 191 = .ok (.iload 8, 2) := dk_21 8 (dk_at dksX6_brings_8 5 rfl rfl)
theorem dX6_brings_193 : decode cX6_brings 193 = .ok (.iload 7, 2) := dk_21 7 (dk_at dksX6_brings_8 7 rfl rfl)
theorem dX6_brings_195 : decode cX6_brings 195 = .ok (.bipush 6, 2) := dk_16 6 (dk_at dksX6_brings_8 9 rfl rfl)
theorem dX6_brings_197 : decode cX6_brings 197 = .ok (.if_icmp .ne 7, 3) := dk_160 0 7 (dk_at dksX6_brings_8 11 rfl rfl)
theorem dX6_brings_200 : decode cX6_brings 200 = .ok (.iload_n 1, 1) := dk_27 (dk_at dksX6_brings_8 14 rfl rfl)
theorem dX6_brings_201 : decode cX6_brings 201 = .ok (.goto 10, 3) := dk_167 0 10 (dk_at dksX6_brings_8 15 rfl rfl)
theorem dX6_brings_204 : decode cX6_brings 204 = .ok (.aload_n 0, 1) := dk_42 (dk_at dksX6_brings_8 18 rfl rfl)
theorem dX6_brings_205 : decode cX6_brings 205 = .ok (.getfield 21, 3) := dk_180 0 21 (dk_at dksX6_brings_8 19 rfl rfl)
theorem dX6_brings_208 : decode cX6_brings 208 = .ok (.iload 7, 2) := dk_21 7 (dk_at dksX6_brings_8 22 rfl rfl)
theorem dX6_brings_210 : decode cX6_brings 210 = .ok (.iaload, 1) := dk_46 (dk_at dksX6_brings_9 0 rfl rfl)
theorem dX6_brings_211 : decode cX6_brings 211 = .ok (.invokevirtual 388, 3) := dk_182 1 132 (dk_at dksX6_brings_9 1 rfl rfl)
theorem dX6_brings_214 : decode cX6_brings 214 = .ok (.iinc 7 1, 3) := dk_132 7 1 (dk_at dksX6_brings_9 4 rfl rfl)
theorem dX6_brings_217 : decode cX6_brings 217 = .ok (.goto (-81), 3) := dk_167 255 175 (dk_at dksX6_brings_9 7 rfl rfl)
theorem dX6_brings_220 : decode cX6_brings 220 = .ok (.iinc 6 1, 3) := dk_132 6 1 (dk_at dksX6_brings_9 10 rfl rfl)
theorem dX6_brings_223 : decode cX6_brings 223 = .ok (.goto (-96), 3) := dk_167 255 160 (dk_at dksX6_brings_9 13 rfl rfl)
theorem dX6_brings_226 : decode cX6_brings 226 = .ok (.iload 5, 2) := dk_21 5 (dk_at dksX6_brings_9 16 rfl rfl)
theorem dX6_brings_228 : decode cX6_brings 228 = .ok (.ireturn, 1) := dk_172 (dk_at dksX6_brings_9 18 rfl rfl)
abbrev cX6_spreads : ByteArray := prog_15_method_94_code
def yX6_spreads : MethodName := ⟨RX6, "spreads", "(III)V"⟩
def dkwX6_spreads_3 : List UInt8 := [42, 29, 42, 180, 0, 21, 21, 4, 46, 182, 1, 139, 96, 79, 132, 4, 1, 167, 255, 171, 177]
abbrev dktX6_spreads_3 : List UInt8 := dkwX6_spreads_3 ++ []
def dkwX6_spreads_2 : List UInt8 := [21, 4, 46, 182, 1, 139, 96, 42, 180, 0, 36, 21, 6, 46, 162, 0, 24, 42, 180, 0, 36, 21, 6, 28]
abbrev dktX6_spreads_2 : List UInt8 := dkwX6_spreads_2 ++ dktX6_spreads_3
def dkwX6_spreads_1 : List UInt8 := [21, 5, 16, 7, 104, 21, 4, 96, 54, 6, 21, 5, 27, 159, 0, 48, 28, 42, 29, 42, 180, 0, 21]
abbrev dktX6_spreads_1 : List UInt8 := dkwX6_spreads_1 ++ dktX6_spreads_2
def dkwX6_spreads_0 : List UInt8 := [3, 54, 4, 21, 4, 42, 180, 1, 47, 180, 0, 193, 162, 0, 79, 42, 27, 21, 4, 182, 1, 136, 54, 5]
abbrev dktX6_spreads_0 : List UInt8 := dkwX6_spreads_0 ++ dktX6_spreads_1
theorem dksX6_spreads_0 : cX6_spreads.data.toList.drop 0 = dktX6_spreads_0 := by decide +kernel
theorem dksX6_spreads_1 : cX6_spreads.data.toList.drop 24 = dktX6_spreads_1 := dk_seg dksX6_spreads_0 24 rfl rfl
theorem dksX6_spreads_2 : cX6_spreads.data.toList.drop 47 = dktX6_spreads_2 := dk_seg dksX6_spreads_1 23 rfl rfl
theorem dksX6_spreads_3 : cX6_spreads.data.toList.drop 71 = dktX6_spreads_3 := dk_seg dksX6_spreads_2 24 rfl rfl
theorem dX6_spreads_0 : decode cX6_spreads 0 = .ok (.iconst 0, 1) := dk_3 (dk_at dksX6_spreads_0 0 rfl rfl)
theorem dX6_spreads_1 : decode cX6_spreads 1 = .ok (.istore 4, 2) := dk_54 4 (dk_at dksX6_spreads_0 1 rfl rfl)
theorem dX6_spreads_3 : decode cX6_spreads 3 = .ok (.iload 4, 2) := dk_21 4 (dk_at dksX6_spreads_0 3 rfl rfl)
theorem dX6_spreads_5 : decode cX6_spreads 5 = .ok (.aload_n 0, 1) := dk_42 (dk_at dksX6_spreads_0 5 rfl rfl)
theorem dX6_spreads_6 : decode cX6_spreads 6 = .ok (.getfield 303, 3) := dk_180 1 47 (dk_at dksX6_spreads_0 6 rfl rfl)
theorem dX6_spreads_9 : decode cX6_spreads 9 = .ok (.getfield 193, 3) := dk_180 0 193 (dk_at dksX6_spreads_0 9 rfl rfl)
theorem dX6_spreads_12 : decode cX6_spreads 12 = .ok (.if_icmp .ge 79, 3) := dk_162 0 79 (dk_at dksX6_spreads_0 12 rfl rfl)
theorem dX6_spreads_15 : decode cX6_spreads 15 = .ok (.aload_n 0, 1) := dk_42 (dk_at dksX6_spreads_0 15 rfl rfl)
theorem dX6_spreads_16 : decode cX6_spreads 16 = .ok (.iload_n 1, 1) := dk_27 (dk_at dksX6_spreads_0 16 rfl rfl)
theorem dX6_spreads_17 : decode cX6_spreads 17 = .ok (.iload 4, 2) := dk_21 4 (dk_at dksX6_spreads_0 17 rfl rfl)
theorem dX6_spreads_19 : decode cX6_spreads 19 = .ok (.invokevirtual 392, 3) := dk_182 1 136 (dk_at dksX6_spreads_0 19 rfl rfl)
theorem dX6_spreads_22 : decode cX6_spreads 22 = .ok (.istore 5, 2) := dk_54 5 (dk_at dksX6_spreads_0 22 rfl rfl)
theorem dX6_spreads_24 : decode cX6_spreads 24 = .ok (.iload 5, 2) := dk_21 5 (dk_at dksX6_spreads_1 0 rfl rfl)
theorem dX6_spreads_26 : decode cX6_spreads 26 = .ok (.bipush 7, 2) := dk_16 7 (dk_at dksX6_spreads_1 2 rfl rfl)
theorem dX6_spreads_28 : decode cX6_spreads 28 = .ok (.imul, 1) := dk_104 (dk_at dksX6_spreads_1 4 rfl rfl)
theorem dX6_spreads_29 : decode cX6_spreads 29 = .ok (.iload 4, 2) := dk_21 4 (dk_at dksX6_spreads_1 5 rfl rfl)
theorem dX6_spreads_31 : decode cX6_spreads 31 = .ok (.iadd, 1) := dk_96 (dk_at dksX6_spreads_1 7 rfl rfl)
theorem dX6_spreads_32 : decode cX6_spreads 32 = .ok (.istore 6, 2) := dk_54 6 (dk_at dksX6_spreads_1 8 rfl rfl)
theorem dX6_spreads_34 : decode cX6_spreads 34 = .ok (.iload 5, 2) := dk_21 5 (dk_at dksX6_spreads_1 10 rfl rfl)
theorem dX6_spreads_36 : decode cX6_spreads 36 = .ok (.iload_n 1, 1) := dk_27 (dk_at dksX6_spreads_1 12 rfl rfl)
theorem dX6_spreads_37 : decode cX6_spreads 37 = .ok (.if_icmp .eq 48, 3) := dk_159 0 48 (dk_at dksX6_spreads_1 13 rfl rfl)
theorem dX6_spreads_40 : decode cX6_spreads 40 = .ok (.iload_n 2, 1) := dk_28 (dk_at dksX6_spreads_1 16 rfl rfl)
theorem dX6_spreads_41 : decode cX6_spreads 41 = .ok (.aload_n 0, 1) := dk_42 (dk_at dksX6_spreads_1 17 rfl rfl)
theorem dX6_spreads_42 : decode cX6_spreads 42 = .ok (.iload_n 3, 1) := dk_29 (dk_at dksX6_spreads_1 18 rfl rfl)
theorem dX6_spreads_43 : decode cX6_spreads 43 = .ok (.aload_n 0, 1) := dk_42 (dk_at dksX6_spreads_1 19 rfl rfl)
theorem dX6_spreads_44 : decode cX6_spreads 44 = .ok (.getfield 21, 3) := dk_180 0 21 (dk_at dksX6_spreads_1 20 rfl rfl)
theorem dX6_spreads_47 : decode cX6_spreads 47 = .ok (.iload 4, 2) := dk_21 4 (dk_at dksX6_spreads_2 0 rfl rfl)
theorem dX6_spreads_49 : decode cX6_spreads 49 = .ok (.iaload, 1) := dk_46 (dk_at dksX6_spreads_2 2 rfl rfl)
theorem dX6_spreads_50 : decode cX6_spreads 50 = .ok (.invokevirtual 395, 3) := dk_182 1 139 (dk_at dksX6_spreads_2 3 rfl rfl)
theorem dX6_spreads_53 : decode cX6_spreads 53 = .ok (.iadd, 1) := dk_96 (dk_at dksX6_spreads_2 6 rfl rfl)
theorem dX6_spreads_54 : decode cX6_spreads 54 = .ok (.aload_n 0, 1) := dk_42 (dk_at dksX6_spreads_2 7 rfl rfl)
theorem dX6_spreads_55 : decode cX6_spreads 55 = .ok (.getfield 36, 3) := dk_180 0 36 (dk_at dksX6_spreads_2 8 rfl rfl)
theorem dX6_spreads_58 : decode cX6_spreads 58 = .ok (.iload 6, 2) := dk_21 6 (dk_at dksX6_spreads_2 11 rfl rfl)
theorem dX6_spreads_60 : decode cX6_spreads 60 = .ok (.iaload, 1) := dk_46 (dk_at dksX6_spreads_2 13 rfl rfl)
theorem dX6_spreads_61 : decode cX6_spreads 61 = .ok (.if_icmp .ge 24, 3) := dk_162 0 24 (dk_at dksX6_spreads_2 14 rfl rfl)
theorem dX6_spreads_64 : decode cX6_spreads 64 = .ok (.aload_n 0, 1) := dk_42 (dk_at dksX6_spreads_2 17 rfl rfl)
theorem dX6_spreads_65 : decode cX6_spreads 65 = .ok (.getfield 36, 3) := dk_180 0 36 (dk_at dksX6_spreads_2 18 rfl rfl)
theorem dX6_spreads_68 : decode cX6_spreads 68 = .ok (.iload 6, 2) := dk_21 6 (dk_at dksX6_spreads_2 21 rfl rfl)
theorem dX6_spreads_70 : decode cX6_spreads 70 = .ok (.iload_n 2, 1) := dk_28 (dk_at dksX6_spreads_2 23 rfl rfl)
theorem dX6_spreads_71 : decode cX6_spreads 71 = .ok (.aload_n 0, 1) := dk_42 (dk_at dksX6_spreads_3 0 rfl rfl)
theorem dX6_spreads_72 : decode cX6_spreads 72 = .ok (.iload_n 3, 1) := dk_29 (dk_at dksX6_spreads_3 1 rfl rfl)
theorem dX6_spreads_73 : decode cX6_spreads 73 = .ok (.aload_n 0, 1) := dk_42 (dk_at dksX6_spreads_3 2 rfl rfl)
theorem dX6_spreads_74 : decode cX6_spreads 74 = .ok (.getfield 21, 3) := dk_180 0 21 (dk_at dksX6_spreads_3 3 rfl rfl)
theorem dX6_spreads_77 : decode cX6_spreads 77 = .ok (.iload 4, 2) := dk_21 4 (dk_at dksX6_spreads_3 6 rfl rfl)
theorem dX6_spreads_79 : decode cX6_spreads 79 = .ok (.iaload, 1) := dk_46 (dk_at dksX6_spreads_3 8 rfl rfl)
theorem dX6_spreads_80 : decode cX6_spreads 80 = .ok (.invokevirtual 395, 3) := dk_182 1 139 (dk_at dksX6_spreads_3 9 rfl rfl)
theorem dX6_spreads_83 : decode cX6_spreads 83 = .ok (.iadd, 1) := dk_96 (dk_at dksX6_spreads_3 12 rfl rfl)
theorem dX6_spreads_84 : decode cX6_spreads 84 = .ok (.iastore, 1) := dk_79 (dk_at dksX6_spreads_3 13 rfl rfl)
theorem dX6_spreads_85 : decode cX6_spreads 85 = .ok (.iinc 4 1, 3) := dk_132 4 1 (dk_at dksX6_spreads_3 14 rfl rfl)
theorem dX6_spreads_88 : decode cX6_spreads 88 = .ok (.goto (-85), 3) := dk_167 255 171 (dk_at dksX6_spreads_3 17 rfl rfl)
theorem dX6_spreads_91 : decode cX6_spreads 91 = .ok (.return_, 1) := dk_177 (dk_at dksX6_spreads_3 20 rfl rfl)
abbrev cX6_behind : ByteArray := prog_15_method_92_code
def yX6_behind : MethodName := ⟨RX6, "behind", "(II)I"⟩
def dkwX6_behind_3 : List UInt8 := [6, 104, 54, 4, 132, 5, 1, 167, 255, 186, 29, 172]
abbrev dktX6_behind_3 : List UInt8 := dkwX6_behind_3 ++ []
def dkwX6_behind_2 : List UInt8 := [160, 0, 22, 42, 180, 1, 47, 180, 1, 7, 21, 5, 46, 28, 160, 0, 8, 29, 21, 4, 96, 62, 21, 4]
abbrev dktX6_behind_2 : List UInt8 := dkwX6_behind_2 ++ dktX6_behind_3
def dkwX6_behind_1 : List UInt8 := [6, 112, 54, 6, 21, 6, 154, 0, 14, 42, 180, 0, 39, 21, 5, 46, 28, 159, 0, 23, 21, 6, 4]
abbrev dktX6_behind_1 : List UInt8 := dkwX6_behind_1 ++ dktX6_behind_2
def dkwX6_behind_0 : List UInt8 := [27, 62, 4, 54, 4, 3, 54, 5, 21, 5, 42, 180, 1, 47, 180, 0, 241, 162, 0, 64, 27, 21, 4, 108]
abbrev dktX6_behind_0 : List UInt8 := dkwX6_behind_0 ++ dktX6_behind_1
theorem dksX6_behind_0 : cX6_behind.data.toList.drop 0 = dktX6_behind_0 := by decide +kernel
theorem dksX6_behind_1 : cX6_behind.data.toList.drop 24 = dktX6_behind_1 := dk_seg dksX6_behind_0 24 rfl rfl
theorem dksX6_behind_2 : cX6_behind.data.toList.drop 47 = dktX6_behind_2 := dk_seg dksX6_behind_1 23 rfl rfl
theorem dksX6_behind_3 : cX6_behind.data.toList.drop 71 = dktX6_behind_3 := dk_seg dksX6_behind_2 24 rfl rfl
theorem dX6_behind_0 : decode cX6_behind 0 = .ok (.iload_n 1, 1) := dk_27 (dk_at dksX6_behind_0 0 rfl rfl)
theorem dX6_behind_1 : decode cX6_behind 1 = .ok (.istore_n 3, 1) := dk_62 (dk_at dksX6_behind_0 1 rfl rfl)
theorem dX6_behind_2 : decode cX6_behind 2 = .ok (.iconst 1, 1) := dk_4 (dk_at dksX6_behind_0 2 rfl rfl)
theorem dX6_behind_3 : decode cX6_behind 3 = .ok (.istore 4, 2) := dk_54 4 (dk_at dksX6_behind_0 3 rfl rfl)
theorem dX6_behind_5 : decode cX6_behind 5 = .ok (.iconst 0, 1) := dk_3 (dk_at dksX6_behind_0 5 rfl rfl)
theorem dX6_behind_6 : decode cX6_behind 6 = .ok (.istore 5, 2) := dk_54 5 (dk_at dksX6_behind_0 6 rfl rfl)
theorem dX6_behind_8 : decode cX6_behind 8 = .ok (.iload 5, 2) := dk_21 5 (dk_at dksX6_behind_0 8 rfl rfl)
theorem dX6_behind_10 : decode cX6_behind 10 = .ok (.aload_n 0, 1) := dk_42 (dk_at dksX6_behind_0 10 rfl rfl)
theorem dX6_behind_11 : decode cX6_behind 11 = .ok (.getfield 303, 3) := dk_180 1 47 (dk_at dksX6_behind_0 11 rfl rfl)
theorem dX6_behind_14 : decode cX6_behind 14 = .ok (.getfield 241, 3) := dk_180 0 241 (dk_at dksX6_behind_0 14 rfl rfl)
theorem dX6_behind_17 : decode cX6_behind 17 = .ok (.if_icmp .ge 64, 3) := dk_162 0 64 (dk_at dksX6_behind_0 17 rfl rfl)
theorem dX6_behind_20 : decode cX6_behind 20 = .ok (.iload_n 1, 1) := dk_27 (dk_at dksX6_behind_0 20 rfl rfl)
theorem dX6_behind_21 : decode cX6_behind 21 = .ok (.iload 4, 2) := dk_21 4 (dk_at dksX6_behind_0 21 rfl rfl)
theorem dX6_behind_23 : decode cX6_behind 23 = .ok (.idiv, 1) := dk_108 (dk_at dksX6_behind_0 23 rfl rfl)
theorem dX6_behind_24 : decode cX6_behind 24 = .ok (.iconst 3, 1) := dk_6 (dk_at dksX6_behind_1 0 rfl rfl)
theorem dX6_behind_25 : decode cX6_behind 25 = .ok (.irem, 1) := dk_112 (dk_at dksX6_behind_1 1 rfl rfl)
theorem dX6_behind_26 : decode cX6_behind 26 = .ok (.istore 6, 2) := dk_54 6 (dk_at dksX6_behind_1 2 rfl rfl)
theorem dX6_behind_28 : decode cX6_behind 28 = .ok (.iload 6, 2) := dk_21 6 (dk_at dksX6_behind_1 4 rfl rfl)
theorem dX6_behind_30 : decode cX6_behind 30 = .ok (.ifCond .ne 14, 3) := dk_154 0 14 (dk_at dksX6_behind_1 6 rfl rfl)
theorem dX6_behind_33 : decode cX6_behind 33 = .ok (.aload_n 0, 1) := dk_42 (dk_at dksX6_behind_1 9 rfl rfl)
theorem dX6_behind_34 : decode cX6_behind 34 = .ok (.getfield 39, 3) := dk_180 0 39 (dk_at dksX6_behind_1 10 rfl rfl)
theorem dX6_behind_37 : decode cX6_behind 37 = .ok (.iload 5, 2) := dk_21 5 (dk_at dksX6_behind_1 13 rfl rfl)
theorem dX6_behind_39 : decode cX6_behind 39 = .ok (.iaload, 1) := dk_46 (dk_at dksX6_behind_1 15 rfl rfl)
theorem dX6_behind_40 : decode cX6_behind 40 = .ok (.iload_n 2, 1) := dk_28 (dk_at dksX6_behind_1 16 rfl rfl)
theorem dX6_behind_41 : decode cX6_behind 41 = .ok (.if_icmp .eq 23, 3) := dk_159 0 23 (dk_at dksX6_behind_1 17 rfl rfl)
theorem dX6_behind_44 : decode cX6_behind 44 = .ok (.iload 6, 2) := dk_21 6 (dk_at dksX6_behind_1 20 rfl rfl)
theorem dX6_behind_46 : decode cX6_behind 46 = .ok (.iconst 1, 1) := dk_4 (dk_at dksX6_behind_1 22 rfl rfl)
theorem dX6_behind_47 : decode cX6_behind 47 = .ok (.if_icmp .ne 22, 3) := dk_160 0 22 (dk_at dksX6_behind_2 0 rfl rfl)
theorem dX6_behind_50 : decode cX6_behind 50 = .ok (.aload_n 0, 1) := dk_42 (dk_at dksX6_behind_2 3 rfl rfl)
theorem dX6_behind_51 : decode cX6_behind 51 = .ok (.getfield 303, 3) := dk_180 1 47 (dk_at dksX6_behind_2 4 rfl rfl)
theorem dX6_behind_54 : decode cX6_behind 54 = .ok (.getfield 263, 3) := dk_180 1 7 (dk_at dksX6_behind_2 7 rfl rfl)
theorem dX6_behind_57 : decode cX6_behind 57 = .ok (.iload 5, 2) := dk_21 5 (dk_at dksX6_behind_2 10 rfl rfl)
theorem dX6_behind_59 : decode cX6_behind 59 = .ok (.iaload, 1) := dk_46 (dk_at dksX6_behind_2 12 rfl rfl)
theorem dX6_behind_60 : decode cX6_behind 60 = .ok (.iload_n 2, 1) := dk_28 (dk_at dksX6_behind_2 13 rfl rfl)
theorem dX6_behind_61 : decode cX6_behind 61 = .ok (.if_icmp .ne 8, 3) := dk_160 0 8 (dk_at dksX6_behind_2 14 rfl rfl)
theorem dX6_behind_64 : decode cX6_behind 64 = .ok (.iload_n 3, 1) := dk_29 (dk_at dksX6_behind_2 17 rfl rfl)
theorem dX6_behind_65 : decode cX6_behind 65 = .ok (.iload 4, 2) := dk_21 4 (dk_at dksX6_behind_2 18 rfl rfl)
theorem dX6_behind_67 : decode cX6_behind 67 = .ok (.iadd, 1) := dk_96 (dk_at dksX6_behind_2 20 rfl rfl)
theorem dX6_behind_68 : decode cX6_behind 68 = .ok (.istore_n 3, 1) := dk_62 (dk_at dksX6_behind_2 21 rfl rfl)
theorem dX6_behind_69 : decode cX6_behind 69 = .ok (.iload 4, 2) := dk_21 4 (dk_at dksX6_behind_2 22 rfl rfl)
theorem dX6_behind_71 : decode cX6_behind 71 = .ok (.iconst 3, 1) := dk_6 (dk_at dksX6_behind_3 0 rfl rfl)
theorem dX6_behind_72 : decode cX6_behind 72 = .ok (.imul, 1) := dk_104 (dk_at dksX6_behind_3 1 rfl rfl)
theorem dX6_behind_73 : decode cX6_behind 73 = .ok (.istore 4, 2) := dk_54 4 (dk_at dksX6_behind_3 2 rfl rfl)
theorem dX6_behind_75 : decode cX6_behind 75 = .ok (.iinc 5 1, 3) := dk_132 5 1 (dk_at dksX6_behind_3 4 rfl rfl)
theorem dX6_behind_78 : decode cX6_behind 78 = .ok (.goto (-70), 3) := dk_167 255 186 (dk_at dksX6_behind_3 7 rfl rfl)
theorem dX6_behind_81 : decode cX6_behind 81 = .ok (.iload_n 3, 1) := dk_29 (dk_at dksX6_behind_3 10 rfl rfl)
theorem dX6_behind_82 : decode cX6_behind 82 = .ok (.ireturn, 1) := dk_172 (dk_at dksX6_behind_3 11 rfl rfl)
abbrev cX6_apart : ByteArray := prog_15_method_91_code
def yX6_apart : MethodName := ⟨RX6, "apart", "(II)I"⟩
def dkwX6_apart_1 : List UInt8 := [167, 0, 12, 42, 180, 1, 47, 180, 0, 159, 29, 100, 172]
abbrev dktX6_apart_1 : List UInt8 := dkwX6_apart_1 ++ []
def dkwX6_apart_0 : List UInt8 := [42, 28, 27, 100, 133, 182, 1, 61, 62, 29, 42, 180, 1, 47, 180, 0, 159, 29, 100, 162, 0, 7, 29]
abbrev dktX6_apart_0 : List UInt8 := dkwX6_apart_0 ++ dktX6_apart_1
theorem dksX6_apart_0 : cX6_apart.data.toList.drop 0 = dktX6_apart_0 := by decide +kernel
theorem dksX6_apart_1 : cX6_apart.data.toList.drop 23 = dktX6_apart_1 := dk_seg dksX6_apart_0 23 rfl rfl
theorem dX6_apart_0 : decode cX6_apart 0 = .ok (.aload_n 0, 1) := dk_42 (dk_at dksX6_apart_0 0 rfl rfl)
theorem dX6_apart_1 : decode cX6_apart 1 = .ok (.iload_n 2, 1) := dk_28 (dk_at dksX6_apart_0 1 rfl rfl)
theorem dX6_apart_2 : decode cX6_apart 2 = .ok (.iload_n 1, 1) := dk_27 (dk_at dksX6_apart_0 2 rfl rfl)
theorem dX6_apart_3 : decode cX6_apart 3 = .ok (.isub, 1) := dk_100 (dk_at dksX6_apart_0 3 rfl rfl)
theorem dX6_apart_4 : decode cX6_apart 4 = .ok (.i2l, 1) := dk_133 (dk_at dksX6_apart_0 4 rfl rfl)
theorem dX6_apart_5 : decode cX6_apart 5 = .ok (.invokevirtual 317, 3) := dk_182 1 61 (dk_at dksX6_apart_0 5 rfl rfl)
theorem dX6_apart_8 : decode cX6_apart 8 = .ok (.istore_n 3, 1) := dk_62 (dk_at dksX6_apart_0 8 rfl rfl)
theorem dX6_apart_9 : decode cX6_apart 9 = .ok (.iload_n 3, 1) := dk_29 (dk_at dksX6_apart_0 9 rfl rfl)
theorem dX6_apart_10 : decode cX6_apart 10 = .ok (.aload_n 0, 1) := dk_42 (dk_at dksX6_apart_0 10 rfl rfl)
theorem dX6_apart_11 : decode cX6_apart 11 = .ok (.getfield 303, 3) := dk_180 1 47 (dk_at dksX6_apart_0 11 rfl rfl)
theorem dX6_apart_14 : decode cX6_apart 14 = .ok (.getfield 159, 3) := dk_180 0 159 (dk_at dksX6_apart_0 14 rfl rfl)
theorem dX6_apart_17 : decode cX6_apart 17 = .ok (.iload_n 3, 1) := dk_29 (dk_at dksX6_apart_0 17 rfl rfl)
theorem dX6_apart_18 : decode cX6_apart 18 = .ok (.isub, 1) := dk_100 (dk_at dksX6_apart_0 18 rfl rfl)
theorem dX6_apart_19 : decode cX6_apart 19 = .ok (.if_icmp .ge 7, 3) := dk_162 0 7 (dk_at dksX6_apart_0 19 rfl rfl)
theorem dX6_apart_22 : decode cX6_apart 22 = .ok (.iload_n 3, 1) := dk_29 (dk_at dksX6_apart_0 22 rfl rfl)
theorem dX6_apart_23 : decode cX6_apart 23 = .ok (.goto 12, 3) := dk_167 0 12 (dk_at dksX6_apart_1 0 rfl rfl)
theorem dX6_apart_26 : decode cX6_apart 26 = .ok (.aload_n 0, 1) := dk_42 (dk_at dksX6_apart_1 3 rfl rfl)
theorem dX6_apart_27 : decode cX6_apart 27 = .ok (.getfield 303, 3) := dk_180 1 47 (dk_at dksX6_apart_1 4 rfl rfl)
theorem dX6_apart_30 : decode cX6_apart 30 = .ok (.getfield 159, 3) := dk_180 0 159 (dk_at dksX6_apart_1 7 rfl rfl)
theorem dX6_apart_33 : decode cX6_apart 33 = .ok (.iload_n 3, 1) := dk_29 (dk_at dksX6_apart_1 10 rfl rfl)
theorem dX6_apart_34 : decode cX6_apart 34 = .ok (.isub, 1) := dk_100 (dk_at dksX6_apart_1 11 rfl rfl)
theorem dX6_apart_35 : decode cX6_apart 35 = .ok (.ireturn, 1) := dk_172 (dk_at dksX6_apart_1 12 rfl rfl)
abbrev cX6_bringFrom : ByteArray := prog_15_method_96_code
def yX6_bringFrom : MethodName := ⟨RX6, "bringFrom", "(I)I"⟩
def dkwX6_bringFrom_4 : List UInt8 := [182, 0, 59, 172]
abbrev dktX6_bringFrom_4 : List UInt8 := dkwX6_bringFrom_4 ++ []
def dkwX6_bringFrom_3 : List UInt8 := [21, 4, 161, 0, 6, 167, 0, 10, 21, 6, 54, 4, 21, 5, 62, 132, 5, 1, 167, 255, 215, 42, 29]
abbrev dktX6_bringFrom_3 : List UInt8 := dkwX6_bringFrom_3 ++ dktX6_bringFrom_4
def dkwX6_bringFrom_2 : List UInt8 := [21, 5, 42, 180, 1, 47, 180, 0, 159, 162, 0, 35, 42, 21, 5, 27, 182, 1, 142, 54, 6, 21, 6]
abbrev dktX6_bringFrom_2 : List UInt8 := dkwX6_bringFrom_2 ++ dktX6_bringFrom_3
def dkwX6_bringFrom_1 : List UInt8 := [158, 0, 9, 42, 28, 182, 0, 55, 172, 42, 182, 1, 86, 3, 62, 17, 39, 15, 54, 4, 3, 54, 5]
abbrev dktX6_bringFrom_1 : List UInt8 := dkwX6_bringFrom_1 ++ dktX6_bringFrom_2
def dkwX6_bringFrom_0 : List UInt8 := [42, 3, 181, 0, 49, 42, 42, 180, 1, 47, 198, 0, 7, 4, 167, 0, 4, 3, 27, 182, 1, 98, 61, 28]
abbrev dktX6_bringFrom_0 : List UInt8 := dkwX6_bringFrom_0 ++ dktX6_bringFrom_1
theorem dksX6_bringFrom_0 : cX6_bringFrom.data.toList.drop 0 = dktX6_bringFrom_0 := by decide +kernel
theorem dksX6_bringFrom_1 : cX6_bringFrom.data.toList.drop 24 = dktX6_bringFrom_1 := dk_seg dksX6_bringFrom_0 24 rfl rfl
theorem dksX6_bringFrom_2 : cX6_bringFrom.data.toList.drop 47 = dktX6_bringFrom_2 := dk_seg dksX6_bringFrom_1 23 rfl rfl
theorem dksX6_bringFrom_3 : cX6_bringFrom.data.toList.drop 70 = dktX6_bringFrom_3 := dk_seg dksX6_bringFrom_2 23 rfl rfl
theorem dksX6_bringFrom_4 : cX6_bringFrom.data.toList.drop 93 = dktX6_bringFrom_4 := dk_seg dksX6_bringFrom_3 23 rfl rfl
theorem dX6_bringFrom_0 : decode cX6_bringFrom 0 = .ok (.aload_n 0, 1) := dk_42 (dk_at dksX6_bringFrom_0 0 rfl rfl)
theorem dX6_bringFrom_1 : decode cX6_bringFrom 1 = .ok (.iconst 0, 1) := dk_3 (dk_at dksX6_bringFrom_0 1 rfl rfl)
theorem dX6_bringFrom_2 : decode cX6_bringFrom 2 = .ok (.putfield 49, 3) := dk_181 0 49 (dk_at dksX6_bringFrom_0 2 rfl rfl)
theorem dX6_bringFrom_5 : decode cX6_bringFrom 5 = .ok (.aload_n 0, 1) := dk_42 (dk_at dksX6_bringFrom_0 5 rfl rfl)
theorem dX6_bringFrom_6 : decode cX6_bringFrom 6 = .ok (.aload_n 0, 1) := dk_42 (dk_at dksX6_bringFrom_0 6 rfl rfl)
theorem dX6_bringFrom_7 : decode cX6_bringFrom 7 = .ok (.getfield 303, 3) := dk_180 1 47 (dk_at dksX6_bringFrom_0 7 rfl rfl)
theorem dX6_bringFrom_10 : decode cX6_bringFrom 10 = .ok (.ifnull 7, 3) := dk_198 0 7 (dk_at dksX6_bringFrom_0 10 rfl rfl)
theorem dX6_bringFrom_13 : decode cX6_bringFrom 13 = .ok (.iconst 1, 1) := dk_4 (dk_at dksX6_bringFrom_0 13 rfl rfl)
theorem dX6_bringFrom_14 : decode cX6_bringFrom 14 = .ok (.goto 4, 3) := dk_167 0 4 (dk_at dksX6_bringFrom_0 14 rfl rfl)
theorem dX6_bringFrom_17 : decode cX6_bringFrom 17 = .ok (.iconst 0, 1) := dk_3 (dk_at dksX6_bringFrom_0 17 rfl rfl)
theorem dX6_bringFrom_18 : decode cX6_bringFrom 18 = .ok (.iload_n 1, 1) := dk_27 (dk_at dksX6_bringFrom_0 18 rfl rfl)
theorem dX6_bringFrom_19 : decode cX6_bringFrom 19 = .ok (.invokevirtual 354, 3) := dk_182 1 98 (dk_at dksX6_bringFrom_0 19 rfl rfl)
theorem dX6_bringFrom_22 : decode cX6_bringFrom 22 = .ok (.istore_n 2, 1) := dk_61 (dk_at dksX6_bringFrom_0 22 rfl rfl)
theorem dX6_bringFrom_23 : decode cX6_bringFrom 23 = .ok (.iload_n 2, 1) := dk_28 (dk_at dksX6_bringFrom_0 23 rfl rfl)
theorem dX6_bringFrom_24 : decode cX6_bringFrom 24 = .ok (.ifCond .le 9, 3) := dk_158 0 9 (dk_at dksX6_bringFrom_1 0 rfl rfl)
theorem dX6_bringFrom_27 : decode cX6_bringFrom 27 = .ok (.aload_n 0, 1) := dk_42 (dk_at dksX6_bringFrom_1 3 rfl rfl)
theorem dX6_bringFrom_28 : decode cX6_bringFrom 28 = .ok (.iload_n 2, 1) := dk_28 (dk_at dksX6_bringFrom_1 4 rfl rfl)
theorem dX6_bringFrom_29 : decode cX6_bringFrom 29 = .ok (.invokevirtual 55, 3) := dk_182 0 55 (dk_at dksX6_bringFrom_1 5 rfl rfl)
theorem dX6_bringFrom_32 : decode cX6_bringFrom 32 = .ok (.ireturn, 1) := dk_172 (dk_at dksX6_bringFrom_1 8 rfl rfl)
theorem dX6_bringFrom_33 : decode cX6_bringFrom 33 = .ok (.aload_n 0, 1) := dk_42 (dk_at dksX6_bringFrom_1 9 rfl rfl)
theorem dX6_bringFrom_34 : decode cX6_bringFrom 34 = .ok (.invokevirtual 342, 3) := dk_182 1 86 (dk_at dksX6_bringFrom_1 10 rfl rfl)
theorem dX6_bringFrom_37 : decode cX6_bringFrom 37 = .ok (.iconst 0, 1) := dk_3 (dk_at dksX6_bringFrom_1 13 rfl rfl)
theorem dX6_bringFrom_38 : decode cX6_bringFrom 38 = .ok (.istore_n 3, 1) := dk_62 (dk_at dksX6_bringFrom_1 14 rfl rfl)
theorem dX6_bringFrom_39 : decode cX6_bringFrom 39 = .ok (.sipush 9999, 3) := dk_17 39 15 (dk_at dksX6_bringFrom_1 15 rfl rfl)
theorem dX6_bringFrom_42 : decode cX6_bringFrom 42 = .ok (.istore 4, 2) := dk_54 4 (dk_at dksX6_bringFrom_1 18 rfl rfl)
theorem dX6_bringFrom_44 : decode cX6_bringFrom 44 = .ok (.iconst 0, 1) := dk_3 (dk_at dksX6_bringFrom_1 20 rfl rfl)
theorem dX6_bringFrom_45 : decode cX6_bringFrom 45 = .ok (.istore 5, 2) := dk_54 5 (dk_at dksX6_bringFrom_1 21 rfl rfl)
theorem dX6_bringFrom_47 : decode cX6_bringFrom 47 = .ok (.iload 5, 2) := dk_21 5 (dk_at dksX6_bringFrom_2 0 rfl rfl)
theorem dX6_bringFrom_49 : decode cX6_bringFrom 49 = .ok (.aload_n 0, 1) := dk_42 (dk_at dksX6_bringFrom_2 2 rfl rfl)
theorem dX6_bringFrom_50 : decode cX6_bringFrom 50 = .ok (.getfield 303, 3) := dk_180 1 47 (dk_at dksX6_bringFrom_2 3 rfl rfl)
theorem dX6_bringFrom_53 : decode cX6_bringFrom 53 = .ok (.getfield 159, 3) := dk_180 0 159 (dk_at dksX6_bringFrom_2 6 rfl rfl)
theorem dX6_bringFrom_56 : decode cX6_bringFrom 56 = .ok (.if_icmp .ge 35, 3) := dk_162 0 35 (dk_at dksX6_bringFrom_2 9 rfl rfl)
theorem dX6_bringFrom_59 : decode cX6_bringFrom 59 = .ok (.aload_n 0, 1) := dk_42 (dk_at dksX6_bringFrom_2 12 rfl rfl)
theorem dX6_bringFrom_60 : decode cX6_bringFrom 60 = .ok (.iload 5, 2) := dk_21 5 (dk_at dksX6_bringFrom_2 13 rfl rfl)
theorem dX6_bringFrom_62 : decode cX6_bringFrom 62 = .ok (.iload_n 1, 1) := dk_27 (dk_at dksX6_bringFrom_2 15 rfl rfl)
theorem dX6_bringFrom_63 : decode cX6_bringFrom 63 = .ok (.invokevirtual 398, 3) := dk_182 1 142 (dk_at dksX6_bringFrom_2 16 rfl rfl)
theorem dX6_bringFrom_66 : decode cX6_bringFrom 66 = .ok (.istore 6, 2) := dk_54 6 (dk_at dksX6_bringFrom_2 19 rfl rfl)
theorem dX6_bringFrom_68 : decode cX6_bringFrom 68 = .ok (.iload 6, 2) := dk_21 6 (dk_at dksX6_bringFrom_2 21 rfl rfl)
theorem dX6_bringFrom_70 : decode cX6_bringFrom 70 = .ok (.iload 4, 2) := dk_21 4 (dk_at dksX6_bringFrom_3 0 rfl rfl)
theorem dX6_bringFrom_72 : decode cX6_bringFrom 72 = .ok (.if_icmp .lt 6, 3) := dk_161 0 6 (dk_at dksX6_bringFrom_3 2 rfl rfl)
theorem dX6_bringFrom_75 : decode cX6_bringFrom 75 = .ok (.goto 10, 3) := dk_167 0 10 (dk_at dksX6_bringFrom_3 5 rfl rfl)
theorem dX6_bringFrom_78 : decode cX6_bringFrom 78 = .ok (.iload 6, 2) := dk_21 6 (dk_at dksX6_bringFrom_3 8 rfl rfl)
theorem dX6_bringFrom_80 : decode cX6_bringFrom 80 = .ok (.istore 4, 2) := dk_54 4 (dk_at dksX6_bringFrom_3 10 rfl rfl)
theorem dX6_bringFrom_82 : decode cX6_bringFrom 82 = .ok (.iload 5, 2) := dk_21 5 (dk_at dksX6_bringFrom_3 12 rfl rfl)
theorem dX6_bringFrom_84 : decode cX6_bringFrom 84 = .ok (.istore_n 3, 1) := dk_62 (dk_at dksX6_bringFrom_3 14 rfl rfl)
theorem dX6_bringFrom_85 : decode cX6_bringFrom 85 = .ok (.iinc 5 1, 3) := dk_132 5 1 (dk_at dksX6_bringFrom_3 15 rfl rfl)
theorem dX6_bringFrom_88 : decode cX6_bringFrom 88 = .ok (.goto (-41), 3) := dk_167 255 215 (dk_at dksX6_bringFrom_3 18 rfl rfl)
theorem dX6_bringFrom_91 : decode cX6_bringFrom 91 = .ok (.aload_n 0, 1) := dk_42 (dk_at dksX6_bringFrom_3 21 rfl rfl)
theorem dX6_bringFrom_92 : decode cX6_bringFrom 92 = .ok (.iload_n 3, 1) := dk_29 (dk_at dksX6_bringFrom_3 22 rfl rfl)
theorem dX6_bringFrom_93 : decode cX6_bringFrom 93 = .ok (.invokevirtual 59, 3) := dk_182 0 59 (dk_at dksX6_bringFrom_4 0 rfl rfl)
theorem dX6_bringFrom_96 : decode cX6_bringFrom 96 = .ok (.ireturn, 1) := dk_172 (dk_at dksX6_bringFrom_4 3 rfl rfl)
abbrev cX6_steps : ByteArray := prog_15_method_97_code
def yX6_steps : MethodName := ⟨RX6, "steps", "(II)I"⟩
def dkwX6_steps_1 : List UInt8 := [28, 182, 1, 139, 182, 0, 59, 167, 0, 8, 42, 4, 182, 0, 55, 172]
abbrev dktX6_steps_1 : List UInt8 := dkwX6_steps_1 ++ []
def dkwX6_steps_0 : List UInt8 := [42, 3, 181, 0, 49, 42, 27, 182, 1, 95, 153, 0, 24, 42, 28, 182, 1, 95, 153, 0, 16, 42, 42, 27]
abbrev dktX6_steps_0 : List UInt8 := dkwX6_steps_0 ++ dktX6_steps_1
theorem dksX6_steps_0 : cX6_steps.data.toList.drop 0 = dktX6_steps_0 := by decide +kernel
theorem dksX6_steps_1 : cX6_steps.data.toList.drop 24 = dktX6_steps_1 := dk_seg dksX6_steps_0 24 rfl rfl
theorem dX6_steps_0 : decode cX6_steps 0 = .ok (.aload_n 0, 1) := dk_42 (dk_at dksX6_steps_0 0 rfl rfl)
theorem dX6_steps_1 : decode cX6_steps 1 = .ok (.iconst 0, 1) := dk_3 (dk_at dksX6_steps_0 1 rfl rfl)
theorem dX6_steps_2 : decode cX6_steps 2 = .ok (.putfield 49, 3) := dk_181 0 49 (dk_at dksX6_steps_0 2 rfl rfl)
theorem dX6_steps_5 : decode cX6_steps 5 = .ok (.aload_n 0, 1) := dk_42 (dk_at dksX6_steps_0 5 rfl rfl)
theorem dX6_steps_6 : decode cX6_steps 6 = .ok (.iload_n 1, 1) := dk_27 (dk_at dksX6_steps_0 6 rfl rfl)
theorem dX6_steps_7 : decode cX6_steps 7 = .ok (.invokevirtual 351, 3) := dk_182 1 95 (dk_at dksX6_steps_0 7 rfl rfl)
theorem dX6_steps_10 : decode cX6_steps 10 = .ok (.ifCond .eq 24, 3) := dk_153 0 24 (dk_at dksX6_steps_0 10 rfl rfl)
theorem dX6_steps_13 : decode cX6_steps 13 = .ok (.aload_n 0, 1) := dk_42 (dk_at dksX6_steps_0 13 rfl rfl)
theorem dX6_steps_14 : decode cX6_steps 14 = .ok (.iload_n 2, 1) := dk_28 (dk_at dksX6_steps_0 14 rfl rfl)
theorem dX6_steps_15 : decode cX6_steps 15 = .ok (.invokevirtual 351, 3) := dk_182 1 95 (dk_at dksX6_steps_0 15 rfl rfl)
theorem dX6_steps_18 : decode cX6_steps 18 = .ok (.ifCond .eq 16, 3) := dk_153 0 16 (dk_at dksX6_steps_0 18 rfl rfl)
theorem dX6_steps_21 : decode cX6_steps 21 = .ok (.aload_n 0, 1) := dk_42 (dk_at dksX6_steps_0 21 rfl rfl)
theorem dX6_steps_22 : decode cX6_steps 22 = .ok (.aload_n 0, 1) := dk_42 (dk_at dksX6_steps_0 22 rfl rfl)
theorem dX6_steps_23 : decode cX6_steps 23 = .ok (.iload_n 1, 1) := dk_27 (dk_at dksX6_steps_0 23 rfl rfl)
theorem dX6_steps_24 : decode cX6_steps 24 = .ok (.iload_n 2, 1) := dk_28 (dk_at dksX6_steps_1 0 rfl rfl)
theorem dX6_steps_25 : decode cX6_steps 25 = .ok (.invokevirtual 395, 3) := dk_182 1 139 (dk_at dksX6_steps_1 1 rfl rfl)
theorem dX6_steps_28 : decode cX6_steps 28 = .ok (.invokevirtual 59, 3) := dk_182 0 59 (dk_at dksX6_steps_1 4 rfl rfl)
theorem dX6_steps_31 : decode cX6_steps 31 = .ok (.goto 8, 3) := dk_167 0 8 (dk_at dksX6_steps_1 7 rfl rfl)
theorem dX6_steps_34 : decode cX6_steps 34 = .ok (.aload_n 0, 1) := dk_42 (dk_at dksX6_steps_1 10 rfl rfl)
theorem dX6_steps_35 : decode cX6_steps 35 = .ok (.iconst 1, 1) := dk_4 (dk_at dksX6_steps_1 11 rfl rfl)
theorem dX6_steps_36 : decode cX6_steps 36 = .ok (.invokevirtual 55, 3) := dk_182 0 55 (dk_at dksX6_steps_1 12 rfl rfl)
theorem dX6_steps_39 : decode cX6_steps 39 = .ok (.ireturn, 1) := dk_172 (dk_at dksX6_steps_1 15 rfl rfl)
abbrev cX6_ring : ByteArray := prog_15_method_101_code
def yX6_ring : MethodName := ⟨RX6, "ring", "(II)I"⟩
def dkwX6_ring_1 : List UInt8 := [182, 0, 55, 172, 42, 182, 1, 86, 42, 42, 27, 28, 182, 1, 151, 182, 0, 59, 172]
abbrev dktX6_ring_1 : List UInt8 := dkwX6_ring_1 ++ []
def dkwX6_ring_0 : List UInt8 := [42, 3, 181, 0, 49, 42, 42, 27, 182, 1, 83, 28, 182, 1, 98, 62, 29, 158, 0, 9, 42, 29]
abbrev dktX6_ring_0 : List UInt8 := dkwX6_ring_0 ++ dktX6_ring_1
theorem dksX6_ring_0 : cX6_ring.data.toList.drop 0 = dktX6_ring_0 := by decide +kernel
theorem dksX6_ring_1 : cX6_ring.data.toList.drop 22 = dktX6_ring_1 := dk_seg dksX6_ring_0 22 rfl rfl
theorem dX6_ring_0 : decode cX6_ring 0 = .ok (.aload_n 0, 1) := dk_42 (dk_at dksX6_ring_0 0 rfl rfl)
theorem dX6_ring_1 : decode cX6_ring 1 = .ok (.iconst 0, 1) := dk_3 (dk_at dksX6_ring_0 1 rfl rfl)
theorem dX6_ring_2 : decode cX6_ring 2 = .ok (.putfield 49, 3) := dk_181 0 49 (dk_at dksX6_ring_0 2 rfl rfl)
theorem dX6_ring_5 : decode cX6_ring 5 = .ok (.aload_n 0, 1) := dk_42 (dk_at dksX6_ring_0 5 rfl rfl)
theorem dX6_ring_6 : decode cX6_ring 6 = .ok (.aload_n 0, 1) := dk_42 (dk_at dksX6_ring_0 6 rfl rfl)
theorem dX6_ring_7 : decode cX6_ring 7 = .ok (.iload_n 1, 1) := dk_27 (dk_at dksX6_ring_0 7 rfl rfl)
theorem dX6_ring_8 : decode cX6_ring 8 = .ok (.invokevirtual 339, 3) := dk_182 1 83 (dk_at dksX6_ring_0 8 rfl rfl)
theorem dX6_ring_11 : decode cX6_ring 11 = .ok (.iload_n 2, 1) := dk_28 (dk_at dksX6_ring_0 11 rfl rfl)
theorem dX6_ring_12 : decode cX6_ring 12 = .ok (.invokevirtual 354, 3) := dk_182 1 98 (dk_at dksX6_ring_0 12 rfl rfl)
theorem dX6_ring_15 : decode cX6_ring 15 = .ok (.istore_n 3, 1) := dk_62 (dk_at dksX6_ring_0 15 rfl rfl)
theorem dX6_ring_16 : decode cX6_ring 16 = .ok (.iload_n 3, 1) := dk_29 (dk_at dksX6_ring_0 16 rfl rfl)
theorem dX6_ring_17 : decode cX6_ring 17 = .ok (.ifCond .le 9, 3) := dk_158 0 9 (dk_at dksX6_ring_0 17 rfl rfl)
theorem dX6_ring_20 : decode cX6_ring 20 = .ok (.aload_n 0, 1) := dk_42 (dk_at dksX6_ring_0 20 rfl rfl)
theorem dX6_ring_21 : decode cX6_ring 21 = .ok (.iload_n 3, 1) := dk_29 (dk_at dksX6_ring_0 21 rfl rfl)
theorem dX6_ring_22 : decode cX6_ring 22 = .ok (.invokevirtual 55, 3) := dk_182 0 55 (dk_at dksX6_ring_1 0 rfl rfl)
theorem dX6_ring_25 : decode cX6_ring 25 = .ok (.ireturn, 1) := dk_172 (dk_at dksX6_ring_1 3 rfl rfl)
theorem dX6_ring_26 : decode cX6_ring 26 = .ok (.aload_n 0, 1) := dk_42 (dk_at dksX6_ring_1 4 rfl rfl)
theorem dX6_ring_27 : decode cX6_ring 27 = .ok (.invokevirtual 342, 3) := dk_182 1 86 (dk_at dksX6_ring_1 5 rfl rfl)
theorem dX6_ring_30 : decode cX6_ring 30 = .ok (.aload_n 0, 1) := dk_42 (dk_at dksX6_ring_1 8 rfl rfl)
theorem dX6_ring_31 : decode cX6_ring 31 = .ok (.aload_n 0, 1) := dk_42 (dk_at dksX6_ring_1 9 rfl rfl)
theorem dX6_ring_32 : decode cX6_ring 32 = .ok (.iload_n 1, 1) := dk_27 (dk_at dksX6_ring_1 10 rfl rfl)
theorem dX6_ring_33 : decode cX6_ring 33 = .ok (.iload_n 2, 1) := dk_28 (dk_at dksX6_ring_1 11 rfl rfl)
theorem dX6_ring_34 : decode cX6_ring 34 = .ok (.invokevirtual 407, 3) := dk_182 1 151 (dk_at dksX6_ring_1 12 rfl rfl)
theorem dX6_ring_37 : decode cX6_ring 37 = .ok (.invokevirtual 59, 3) := dk_182 0 59 (dk_at dksX6_ring_1 15 rfl rfl)
theorem dX6_ring_40 : decode cX6_ring 40 = .ok (.ireturn, 1) := dk_172 (dk_at dksX6_ring_1 18 rfl rfl)
abbrev cX6_ringOf : ByteArray := prog_15_method_100_code
def yX6_ringOf : MethodName := ⟨RX6, "ringOf", "(II)I"⟩
def dkwX6_ringOf_2 : List UInt8 := [16, 254, 172]
abbrev dktX6_ringOf_2 : List UInt8 := dkwX6_ringOf_2 ++ []
def dkwX6_ringOf_1 : List UInt8 := [29, 16, 254, 160, 0, 6, 16, 254, 172, 29, 27, 160, 0, 6, 21, 4, 172, 132, 4, 1, 167, 255, 217]
abbrev dktX6_ringOf_1 : List UInt8 := dkwX6_ringOf_1 ++ dktX6_ringOf_2
def dkwX6_ringOf_0 : List UInt8 := [27, 62, 4, 54, 4, 21, 4, 42, 180, 1, 47, 180, 0, 193, 163, 0, 33, 42, 29, 28, 182, 1, 148, 62]
abbrev dktX6_ringOf_0 : List UInt8 := dkwX6_ringOf_0 ++ dktX6_ringOf_1
theorem dksX6_ringOf_0 : cX6_ringOf.data.toList.drop 0 = dktX6_ringOf_0 := by decide +kernel
theorem dksX6_ringOf_1 : cX6_ringOf.data.toList.drop 24 = dktX6_ringOf_1 := dk_seg dksX6_ringOf_0 24 rfl rfl
theorem dksX6_ringOf_2 : cX6_ringOf.data.toList.drop 47 = dktX6_ringOf_2 := dk_seg dksX6_ringOf_1 23 rfl rfl
theorem dX6_ringOf_0 : decode cX6_ringOf 0 = .ok (.iload_n 1, 1) := dk_27 (dk_at dksX6_ringOf_0 0 rfl rfl)
theorem dX6_ringOf_1 : decode cX6_ringOf 1 = .ok (.istore_n 3, 1) := dk_62 (dk_at dksX6_ringOf_0 1 rfl rfl)
theorem dX6_ringOf_2 : decode cX6_ringOf 2 = .ok (.iconst 1, 1) := dk_4 (dk_at dksX6_ringOf_0 2 rfl rfl)
theorem dX6_ringOf_3 : decode cX6_ringOf 3 = .ok (.istore 4, 2) := dk_54 4 (dk_at dksX6_ringOf_0 3 rfl rfl)
theorem dX6_ringOf_5 : decode cX6_ringOf 5 = .ok (.iload 4, 2) := dk_21 4 (dk_at dksX6_ringOf_0 5 rfl rfl)
theorem dX6_ringOf_7 : decode cX6_ringOf 7 = .ok (.aload_n 0, 1) := dk_42 (dk_at dksX6_ringOf_0 7 rfl rfl)
theorem dX6_ringOf_8 : decode cX6_ringOf 8 = .ok (.getfield 303, 3) := dk_180 1 47 (dk_at dksX6_ringOf_0 8 rfl rfl)
theorem dX6_ringOf_11 : decode cX6_ringOf 11 = .ok (.getfield 193, 3) := dk_180 0 193 (dk_at dksX6_ringOf_0 11 rfl rfl)
theorem dX6_ringOf_14 : decode cX6_ringOf 14 = .ok (.if_icmp .gt 33, 3) := dk_163 0 33 (dk_at dksX6_ringOf_0 14 rfl rfl)
theorem dX6_ringOf_17 : decode cX6_ringOf 17 = .ok (.aload_n 0, 1) := dk_42 (dk_at dksX6_ringOf_0 17 rfl rfl)
theorem dX6_ringOf_18 : decode cX6_ringOf 18 = .ok (.iload_n 3, 1) := dk_29 (dk_at dksX6_ringOf_0 18 rfl rfl)
theorem dX6_ringOf_19 : decode cX6_ringOf 19 = .ok (.iload_n 2, 1) := dk_28 (dk_at dksX6_ringOf_0 19 rfl rfl)
theorem dX6_ringOf_20 : decode cX6_ringOf 20 = .ok (.invokevirtual 404, 3) := dk_182 1 148 (dk_at dksX6_ringOf_0 20 rfl rfl)
theorem dX6_ringOf_23 : decode cX6_ringOf 23 = .ok (.istore_n 3, 1) := dk_62 (dk_at dksX6_ringOf_0 23 rfl rfl)
theorem dX6_ringOf_24 : decode cX6_ringOf 24 = .ok (.iload_n 3, 1) := dk_29 (dk_at dksX6_ringOf_1 0 rfl rfl)
theorem dX6_ringOf_25 : decode cX6_ringOf 25 = .ok (.bipush (-2), 2) := dk_16 254 (dk_at dksX6_ringOf_1 1 rfl rfl)
theorem dX6_ringOf_27 : decode cX6_ringOf 27 = .ok (.if_icmp .ne 6, 3) := dk_160 0 6 (dk_at dksX6_ringOf_1 3 rfl rfl)
theorem dX6_ringOf_30 : decode cX6_ringOf 30 = .ok (.bipush (-2), 2) := dk_16 254 (dk_at dksX6_ringOf_1 6 rfl rfl)
theorem dX6_ringOf_32 : decode cX6_ringOf 32 = .ok (.ireturn, 1) := dk_172 (dk_at dksX6_ringOf_1 8 rfl rfl)
theorem dX6_ringOf_33 : decode cX6_ringOf 33 = .ok (.iload_n 3, 1) := dk_29 (dk_at dksX6_ringOf_1 9 rfl rfl)
theorem dX6_ringOf_34 : decode cX6_ringOf 34 = .ok (.iload_n 1, 1) := dk_27 (dk_at dksX6_ringOf_1 10 rfl rfl)
theorem dX6_ringOf_35 : decode cX6_ringOf 35 = .ok (.if_icmp .ne 6, 3) := dk_160 0 6 (dk_at dksX6_ringOf_1 11 rfl rfl)
theorem dX6_ringOf_38 : decode cX6_ringOf 38 = .ok (.iload 4, 2) := dk_21 4 (dk_at dksX6_ringOf_1 14 rfl rfl)
theorem dX6_ringOf_40 : decode cX6_ringOf 40 = .ok (.ireturn, 1) := dk_172 (dk_at dksX6_ringOf_1 16 rfl rfl)
theorem dX6_ringOf_41 : decode cX6_ringOf 41 = .ok (.iinc 4 1, 3) := dk_132 4 1 (dk_at dksX6_ringOf_1 17 rfl rfl)
theorem dX6_ringOf_44 : decode cX6_ringOf 44 = .ok (.goto (-39), 3) := dk_167 255 217 (dk_at dksX6_ringOf_1 20 rfl rfl)
theorem dX6_ringOf_47 : decode cX6_ringOf 47 = .ok (.bipush (-2), 2) := dk_16 254 (dk_at dksX6_ringOf_2 0 rfl rfl)
theorem dX6_ringOf_49 : decode cX6_ringOf 49 = .ok (.ireturn, 1) := dk_172 (dk_at dksX6_ringOf_2 2 rfl rfl)
abbrev cX6_nextOf : ByteArray := prog_15_method_99_code
def yX6_nextOf : MethodName := ⟨RX6, "nextOf", "(II)I"⟩
def dkwX6_nextOf_0 : List UInt8 := [42, 27, 182, 1, 145, 62, 29, 16, 254, 160, 0, 8, 16, 254, 167, 0, 9, 42, 29, 28, 182, 1, 77, 172]
abbrev dktX6_nextOf_0 : List UInt8 := dkwX6_nextOf_0 ++ []
theorem dksX6_nextOf_0 : cX6_nextOf.data.toList.drop 0 = dktX6_nextOf_0 := by decide +kernel
theorem dX6_nextOf_0 : decode cX6_nextOf 0 = .ok (.aload_n 0, 1) := dk_42 (dk_at dksX6_nextOf_0 0 rfl rfl)
theorem dX6_nextOf_1 : decode cX6_nextOf 1 = .ok (.iload_n 1, 1) := dk_27 (dk_at dksX6_nextOf_0 1 rfl rfl)
theorem dX6_nextOf_2 : decode cX6_nextOf 2 = .ok (.invokevirtual 401, 3) := dk_182 1 145 (dk_at dksX6_nextOf_0 2 rfl rfl)
theorem dX6_nextOf_5 : decode cX6_nextOf 5 = .ok (.istore_n 3, 1) := dk_62 (dk_at dksX6_nextOf_0 5 rfl rfl)
theorem dX6_nextOf_6 : decode cX6_nextOf 6 = .ok (.iload_n 3, 1) := dk_29 (dk_at dksX6_nextOf_0 6 rfl rfl)
theorem dX6_nextOf_7 : decode cX6_nextOf 7 = .ok (.bipush (-2), 2) := dk_16 254 (dk_at dksX6_nextOf_0 7 rfl rfl)
theorem dX6_nextOf_9 : decode cX6_nextOf 9 = .ok (.if_icmp .ne 8, 3) := dk_160 0 8 (dk_at dksX6_nextOf_0 9 rfl rfl)
theorem dX6_nextOf_12 : decode cX6_nextOf 12 = .ok (.bipush (-2), 2) := dk_16 254 (dk_at dksX6_nextOf_0 12 rfl rfl)
theorem dX6_nextOf_14 : decode cX6_nextOf 14 = .ok (.goto 9, 3) := dk_167 0 9 (dk_at dksX6_nextOf_0 14 rfl rfl)
theorem dX6_nextOf_17 : decode cX6_nextOf 17 = .ok (.aload_n 0, 1) := dk_42 (dk_at dksX6_nextOf_0 17 rfl rfl)
theorem dX6_nextOf_18 : decode cX6_nextOf 18 = .ok (.iload_n 3, 1) := dk_29 (dk_at dksX6_nextOf_0 18 rfl rfl)
theorem dX6_nextOf_19 : decode cX6_nextOf 19 = .ok (.iload_n 2, 1) := dk_28 (dk_at dksX6_nextOf_0 19 rfl rfl)
theorem dX6_nextOf_20 : decode cX6_nextOf 20 = .ok (.invokevirtual 333, 3) := dk_182 1 77 (dk_at dksX6_nextOf_0 20 rfl rfl)
theorem dX6_nextOf_23 : decode cX6_nextOf 23 = .ok (.ireturn, 1) := dk_172 (dk_at dksX6_nextOf_0 23 rfl rfl)
abbrev cX6_firstDead : ByteArray := prog_15_method_98_code
def yX6_firstDead : MethodName := ⟨RX6, "firstDead", "(I)I"⟩
def dkwX6_firstDead_1 : List UInt8 := [160, 0, 5, 28, 172, 132, 2, 1, 167, 255, 227, 16, 254, 172]
abbrev dktX6_firstDead_1 : List UInt8 := dkwX6_firstDead_1 ++ []
def dkwX6_firstDead_0 : List UInt8 := [3, 61, 28, 42, 180, 1, 47, 180, 0, 241, 162, 0, 24, 42, 180, 1, 47, 180, 1, 7, 28, 46, 27]
abbrev dktX6_firstDead_0 : List UInt8 := dkwX6_firstDead_0 ++ dktX6_firstDead_1
theorem dksX6_firstDead_0 : cX6_firstDead.data.toList.drop 0 = dktX6_firstDead_0 := by decide +kernel
theorem dksX6_firstDead_1 : cX6_firstDead.data.toList.drop 23 = dktX6_firstDead_1 := dk_seg dksX6_firstDead_0 23 rfl rfl
theorem dX6_firstDead_0 : decode cX6_firstDead 0 = .ok (.iconst 0, 1) := dk_3 (dk_at dksX6_firstDead_0 0 rfl rfl)
theorem dX6_firstDead_1 : decode cX6_firstDead 1 = .ok (.istore_n 2, 1) := dk_61 (dk_at dksX6_firstDead_0 1 rfl rfl)
theorem dX6_firstDead_2 : decode cX6_firstDead 2 = .ok (.iload_n 2, 1) := dk_28 (dk_at dksX6_firstDead_0 2 rfl rfl)
theorem dX6_firstDead_3 : decode cX6_firstDead 3 = .ok (.aload_n 0, 1) := dk_42 (dk_at dksX6_firstDead_0 3 rfl rfl)
theorem dX6_firstDead_4 : decode cX6_firstDead 4 = .ok (.getfield 303, 3) := dk_180 1 47 (dk_at dksX6_firstDead_0 4 rfl rfl)
theorem dX6_firstDead_7 : decode cX6_firstDead 7 = .ok (.getfield 241, 3) := dk_180 0 241 (dk_at dksX6_firstDead_0 7 rfl rfl)
theorem dX6_firstDead_10 : decode cX6_firstDead 10 = .ok (.if_icmp .ge 24, 3) := dk_162 0 24 (dk_at dksX6_firstDead_0 10 rfl rfl)
theorem dX6_firstDead_13 : decode cX6_firstDead 13 = .ok (.aload_n 0, 1) := dk_42 (dk_at dksX6_firstDead_0 13 rfl rfl)
theorem dX6_firstDead_14 : decode cX6_firstDead 14 = .ok (.getfield 303, 3) := dk_180 1 47 (dk_at dksX6_firstDead_0 14 rfl rfl)
theorem dX6_firstDead_17 : decode cX6_firstDead 17 = .ok (.getfield 263, 3) := dk_180 1 7 (dk_at dksX6_firstDead_0 17 rfl rfl)
theorem dX6_firstDead_20 : decode cX6_firstDead 20 = .ok (.iload_n 2, 1) := dk_28 (dk_at dksX6_firstDead_0 20 rfl rfl)
theorem dX6_firstDead_21 : decode cX6_firstDead 21 = .ok (.iaload, 1) := dk_46 (dk_at dksX6_firstDead_0 21 rfl rfl)
theorem dX6_firstDead_22 : decode cX6_firstDead 22 = .ok (.iload_n 1, 1) := dk_27 (dk_at dksX6_firstDead_0 22 rfl rfl)
theorem dX6_firstDead_23 : decode cX6_firstDead 23 = .ok (.if_icmp .ne 5, 3) := dk_160 0 5 (dk_at dksX6_firstDead_1 0 rfl rfl)
theorem dX6_firstDead_26 : decode cX6_firstDead 26 = .ok (.iload_n 2, 1) := dk_28 (dk_at dksX6_firstDead_1 3 rfl rfl)
theorem dX6_firstDead_27 : decode cX6_firstDead 27 = .ok (.ireturn, 1) := dk_172 (dk_at dksX6_firstDead_1 4 rfl rfl)
theorem dX6_firstDead_28 : decode cX6_firstDead 28 = .ok (.iinc 2 1, 3) := dk_132 2 1 (dk_at dksX6_firstDead_1 5 rfl rfl)
theorem dX6_firstDead_31 : decode cX6_firstDead 31 = .ok (.goto (-29), 3) := dk_167 255 227 (dk_at dksX6_firstDead_1 8 rfl rfl)
theorem dX6_firstDead_34 : decode cX6_firstDead 34 = .ok (.bipush (-2), 2) := dk_16 254 (dk_at dksX6_firstDead_1 11 rfl rfl)
theorem dX6_firstDead_36 : decode cX6_firstDead 36 = .ok (.ireturn, 1) := dk_172 (dk_at dksX6_firstDead_1 13 rfl rfl)
abbrev cX6_ringAt : ByteArray := prog_15_method_102_code
def yX6_ringAt : MethodName := ⟨RX6, "ringAt", "(III)I"⟩
def dkwX6_ringAt_3 : List UInt8 := [182, 1, 148, 54, 5, 132, 6, 1, 167, 255, 238, 42, 21, 5, 182, 0, 59, 172]
abbrev dktX6_ringAt_3 : List UInt8 := dkwX6_ringAt_3 ++ []
def dkwX6_ringAt_2 : List UInt8 := [42, 4, 182, 0, 55, 172, 27, 54, 5, 3, 54, 6, 21, 6, 29, 162, 0, 18, 42, 21, 5, 28]
abbrev dktX6_ringAt_2 : List UInt8 := dkwX6_ringAt_2 ++ dktX6_ringAt_3
def dkwX6_ringAt_1 : List UInt8 := [21, 4, 182, 0, 55, 172, 42, 182, 1, 86, 29, 155, 0, 13, 29, 42, 27, 28, 182, 1, 151, 161, 0, 9]
abbrev dktX6_ringAt_1 : List UInt8 := dkwX6_ringAt_1 ++ dktX6_ringAt_2
def dkwX6_ringAt_0 : List UInt8 := [42, 3, 181, 0, 49, 42, 42, 27, 182, 1, 83, 28, 182, 1, 98, 54, 4, 21, 4, 158, 0, 10, 42]
abbrev dktX6_ringAt_0 : List UInt8 := dkwX6_ringAt_0 ++ dktX6_ringAt_1
theorem dksX6_ringAt_0 : cX6_ringAt.data.toList.drop 0 = dktX6_ringAt_0 := by decide +kernel
theorem dksX6_ringAt_1 : cX6_ringAt.data.toList.drop 23 = dktX6_ringAt_1 := dk_seg dksX6_ringAt_0 23 rfl rfl
theorem dksX6_ringAt_2 : cX6_ringAt.data.toList.drop 47 = dktX6_ringAt_2 := dk_seg dksX6_ringAt_1 24 rfl rfl
theorem dksX6_ringAt_3 : cX6_ringAt.data.toList.drop 69 = dktX6_ringAt_3 := dk_seg dksX6_ringAt_2 22 rfl rfl
theorem dX6_ringAt_0 : decode cX6_ringAt 0 = .ok (.aload_n 0, 1) := dk_42 (dk_at dksX6_ringAt_0 0 rfl rfl)
theorem dX6_ringAt_1 : decode cX6_ringAt 1 = .ok (.iconst 0, 1) := dk_3 (dk_at dksX6_ringAt_0 1 rfl rfl)
theorem dX6_ringAt_2 : decode cX6_ringAt 2 = .ok (.putfield 49, 3) := dk_181 0 49 (dk_at dksX6_ringAt_0 2 rfl rfl)
theorem dX6_ringAt_5 : decode cX6_ringAt 5 = .ok (.aload_n 0, 1) := dk_42 (dk_at dksX6_ringAt_0 5 rfl rfl)
theorem dX6_ringAt_6 : decode cX6_ringAt 6 = .ok (.aload_n 0, 1) := dk_42 (dk_at dksX6_ringAt_0 6 rfl rfl)
theorem dX6_ringAt_7 : decode cX6_ringAt 7 = .ok (.iload_n 1, 1) := dk_27 (dk_at dksX6_ringAt_0 7 rfl rfl)
theorem dX6_ringAt_8 : decode cX6_ringAt 8 = .ok (.invokevirtual 339, 3) := dk_182 1 83 (dk_at dksX6_ringAt_0 8 rfl rfl)
theorem dX6_ringAt_11 : decode cX6_ringAt 11 = .ok (.iload_n 2, 1) := dk_28 (dk_at dksX6_ringAt_0 11 rfl rfl)
theorem dX6_ringAt_12 : decode cX6_ringAt 12 = .ok (.invokevirtual 354, 3) := dk_182 1 98 (dk_at dksX6_ringAt_0 12 rfl rfl)
theorem dX6_ringAt_15 : decode cX6_ringAt 15 = .ok (.istore 4, 2) := dk_54 4 (dk_at dksX6_ringAt_0 15 rfl rfl)
theorem dX6_ringAt_17 : decode cX6_ringAt 17 = .ok (.iload 4, 2) := dk_21 4 (dk_at dksX6_ringAt_0 17 rfl rfl)
theorem dX6_ringAt_19 : decode cX6_ringAt 19 = .ok (.ifCond .le 10, 3) := dk_158 0 10 (dk_at dksX6_ringAt_0 19 rfl rfl)
theorem dX6_ringAt_22 : decode cX6_ringAt 22 = .ok (.aload_n 0, 1) := dk_42 (dk_at dksX6_ringAt_0 22 rfl rfl)
theorem dX6_ringAt_23 : decode cX6_ringAt 23 = .ok (.iload 4, 2) := dk_21 4 (dk_at dksX6_ringAt_1 0 rfl rfl)
theorem dX6_ringAt_25 : decode cX6_ringAt 25 = .ok (.invokevirtual 55, 3) := dk_182 0 55 (dk_at dksX6_ringAt_1 2 rfl rfl)
theorem dX6_ringAt_28 : decode cX6_ringAt 28 = .ok (.ireturn, 1) := dk_172 (dk_at dksX6_ringAt_1 5 rfl rfl)
theorem dX6_ringAt_29 : decode cX6_ringAt 29 = .ok (.aload_n 0, 1) := dk_42 (dk_at dksX6_ringAt_1 6 rfl rfl)
theorem dX6_ringAt_30 : decode cX6_ringAt 30 = .ok (.invokevirtual 342, 3) := dk_182 1 86 (dk_at dksX6_ringAt_1 7 rfl rfl)
theorem dX6_ringAt_33 : decode cX6_ringAt 33 = .ok (.iload_n 3, 1) := dk_29 (dk_at dksX6_ringAt_1 10 rfl rfl)
theorem dX6_ringAt_34 : decode cX6_ringAt 34 = .ok (.ifCond .lt 13, 3) := dk_155 0 13 (dk_at dksX6_ringAt_1 11 rfl rfl)
theorem dX6_ringAt_37 : decode cX6_ringAt 37 = .ok (.iload_n 3, 1) := dk_29 (dk_at dksX6_ringAt_1 14 rfl rfl)
theorem dX6_ringAt_38 : decode cX6_ringAt 38 = .ok (.aload_n 0, 1) := dk_42 (dk_at dksX6_ringAt_1 15 rfl rfl)
theorem dX6_ringAt_39 : decode cX6_ringAt 39 = .ok (.iload_n 1, 1) := dk_27 (dk_at dksX6_ringAt_1 16 rfl rfl)
theorem dX6_ringAt_40 : decode cX6_ringAt 40 = .ok (.iload_n 2, 1) := dk_28 (dk_at dksX6_ringAt_1 17 rfl rfl)
theorem dX6_ringAt_41 : decode cX6_ringAt 41 = .ok (.invokevirtual 407, 3) := dk_182 1 151 (dk_at dksX6_ringAt_1 18 rfl rfl)
theorem dX6_ringAt_44 : decode cX6_ringAt 44 = .ok (.if_icmp .lt 9, 3) := dk_161 0 9 (dk_at dksX6_ringAt_1 21 rfl rfl)
theorem dX6_ringAt_47 : decode cX6_ringAt 47 = .ok (.aload_n 0, 1) := dk_42 (dk_at dksX6_ringAt_2 0 rfl rfl)
theorem dX6_ringAt_48 : decode cX6_ringAt 48 = .ok (.iconst 1, 1) := dk_4 (dk_at dksX6_ringAt_2 1 rfl rfl)
theorem dX6_ringAt_49 : decode cX6_ringAt 49 = .ok (.invokevirtual 55, 3) := dk_182 0 55 (dk_at dksX6_ringAt_2 2 rfl rfl)
theorem dX6_ringAt_52 : decode cX6_ringAt 52 = .ok (.ireturn, 1) := dk_172 (dk_at dksX6_ringAt_2 5 rfl rfl)
theorem dX6_ringAt_53 : decode cX6_ringAt 53 = .ok (.iload_n 1, 1) := dk_27 (dk_at dksX6_ringAt_2 6 rfl rfl)
theorem dX6_ringAt_54 : decode cX6_ringAt 54 = .ok (.istore 5, 2) := dk_54 5 (dk_at dksX6_ringAt_2 7 rfl rfl)
theorem dX6_ringAt_56 : decode cX6_ringAt 56 = .ok (.iconst 0, 1) := dk_3 (dk_at dksX6_ringAt_2 9 rfl rfl)
theorem dX6_ringAt_57 : decode cX6_ringAt 57 = .ok (.istore 6, 2) := dk_54 6 (dk_at dksX6_ringAt_2 10 rfl rfl)
theorem dX6_ringAt_59 : decode cX6_ringAt 59 = .ok (.iload 6, 2) := dk_21 6 (dk_at dksX6_ringAt_2 12 rfl rfl)
theorem dX6_ringAt_61 : decode cX6_ringAt 61 = .ok (.iload_n 3, 1) := dk_29 (dk_at dksX6_ringAt_2 14 rfl rfl)
theorem dX6_ringAt_62 : decode cX6_ringAt 62 = .ok (.if_icmp .ge 18, 3) := dk_162 0 18 (dk_at dksX6_ringAt_2 15 rfl rfl)
theorem dX6_ringAt_65 : decode cX6_ringAt 65 = .ok (.aload_n 0, 1) := dk_42 (dk_at dksX6_ringAt_2 18 rfl rfl)
theorem dX6_ringAt_66 : decode cX6_ringAt 66 = .ok (.iload 5, 2) := dk_21 5 (dk_at dksX6_ringAt_2 19 rfl rfl)
theorem dX6_ringAt_68 : decode cX6_ringAt 68 = .ok (.iload_n 2, 1) := dk_28 (dk_at dksX6_ringAt_2 21 rfl rfl)
theorem dX6_ringAt_69 : decode cX6_ringAt 69 = .ok (.invokevirtual 404, 3) := dk_182 1 148 (dk_at dksX6_ringAt_3 0 rfl rfl)
theorem dX6_ringAt_72 : decode cX6_ringAt 72 = .ok (.istore 5, 2) := dk_54 5 (dk_at dksX6_ringAt_3 3 rfl rfl)
theorem dX6_ringAt_74 : decode cX6_ringAt 74 = .ok (.iinc 6 1, 3) := dk_132 6 1 (dk_at dksX6_ringAt_3 5 rfl rfl)
theorem dX6_ringAt_77 : decode cX6_ringAt 77 = .ok (.goto (-18), 3) := dk_167 255 238 (dk_at dksX6_ringAt_3 8 rfl rfl)
theorem dX6_ringAt_80 : decode cX6_ringAt 80 = .ok (.aload_n 0, 1) := dk_42 (dk_at dksX6_ringAt_3 11 rfl rfl)
theorem dX6_ringAt_81 : decode cX6_ringAt 81 = .ok (.iload 5, 2) := dk_21 5 (dk_at dksX6_ringAt_3 12 rfl rfl)
theorem dX6_ringAt_83 : decode cX6_ringAt 83 = .ok (.invokevirtual 59, 3) := dk_182 0 59 (dk_at dksX6_ringAt_3 14 rfl rfl)
theorem dX6_ringAt_86 : decode cX6_ringAt 86 = .ok (.ireturn, 1) := dk_172 (dk_at dksX6_ringAt_3 17 rfl rfl)
abbrev cX6_fits : ByteArray := prog_15_method_105_code
def yX6_fits : MethodName := ⟨RX6, "fits", "()I"⟩
def dkwX6_fits_1 : List UInt8 := [42, 42, 180, 1, 154, 182, 0, 59, 172]
abbrev dktX6_fits_1 : List UInt8 := dkwX6_fits_1 ++ []
def dkwX6_fits_0 : List UInt8 := [42, 3, 181, 0, 49, 42, 180, 1, 47, 199, 0, 9, 42, 4, 182, 0, 55, 172, 42, 2, 182, 1, 166, 87]
abbrev dktX6_fits_0 : List UInt8 := dkwX6_fits_0 ++ dktX6_fits_1
theorem dksX6_fits_0 : cX6_fits.data.toList.drop 0 = dktX6_fits_0 := by decide +kernel
theorem dksX6_fits_1 : cX6_fits.data.toList.drop 24 = dktX6_fits_1 := dk_seg dksX6_fits_0 24 rfl rfl
theorem dX6_fits_0 : decode cX6_fits 0 = .ok (.aload_n 0, 1) := dk_42 (dk_at dksX6_fits_0 0 rfl rfl)
theorem dX6_fits_1 : decode cX6_fits 1 = .ok (.iconst 0, 1) := dk_3 (dk_at dksX6_fits_0 1 rfl rfl)
theorem dX6_fits_2 : decode cX6_fits 2 = .ok (.putfield 49, 3) := dk_181 0 49 (dk_at dksX6_fits_0 2 rfl rfl)
theorem dX6_fits_5 : decode cX6_fits 5 = .ok (.aload_n 0, 1) := dk_42 (dk_at dksX6_fits_0 5 rfl rfl)
theorem dX6_fits_6 : decode cX6_fits 6 = .ok (.getfield 303, 3) := dk_180 1 47 (dk_at dksX6_fits_0 6 rfl rfl)
theorem dX6_fits_9 : decode cX6_fits 9 = .ok (.ifnonnull 9, 3) := dk_199 0 9 (dk_at dksX6_fits_0 9 rfl rfl)
theorem dX6_fits_12 : decode cX6_fits 12 = .ok (.aload_n 0, 1) := dk_42 (dk_at dksX6_fits_0 12 rfl rfl)
theorem dX6_fits_13 : decode cX6_fits 13 = .ok (.iconst 1, 1) := dk_4 (dk_at dksX6_fits_0 13 rfl rfl)
theorem dX6_fits_14 : decode cX6_fits 14 = .ok (.invokevirtual 55, 3) := dk_182 0 55 (dk_at dksX6_fits_0 14 rfl rfl)
theorem dX6_fits_17 : decode cX6_fits 17 = .ok (.ireturn, 1) := dk_172 (dk_at dksX6_fits_0 17 rfl rfl)
theorem dX6_fits_18 : decode cX6_fits 18 = .ok (.aload_n 0, 1) := dk_42 (dk_at dksX6_fits_0 18 rfl rfl)
theorem dX6_fits_19 : decode cX6_fits 19 = .ok (.iconst (-1), 1) := dk_2 (dk_at dksX6_fits_0 19 rfl rfl)
theorem dX6_fits_20 : decode cX6_fits 20 = .ok (.invokevirtual 422, 3) := dk_182 1 166 (dk_at dksX6_fits_0 20 rfl rfl)
theorem dX6_fits_23 : decode cX6_fits 23 = .ok (.pop, 1) := dk_87 (dk_at dksX6_fits_0 23 rfl rfl)
theorem dX6_fits_24 : decode cX6_fits 24 = .ok (.aload_n 0, 1) := dk_42 (dk_at dksX6_fits_1 0 rfl rfl)
theorem dX6_fits_25 : decode cX6_fits 25 = .ok (.aload_n 0, 1) := dk_42 (dk_at dksX6_fits_1 1 rfl rfl)
theorem dX6_fits_26 : decode cX6_fits 26 = .ok (.getfield 410, 3) := dk_180 1 154 (dk_at dksX6_fits_1 2 rfl rfl)
theorem dX6_fits_29 : decode cX6_fits 29 = .ok (.invokevirtual 59, 3) := dk_182 0 59 (dk_at dksX6_fits_1 5 rfl rfl)
theorem dX6_fits_32 : decode cX6_fits 32 = .ok (.ireturn, 1) := dk_172 (dk_at dksX6_fits_1 8 rfl rfl)
abbrev cX6_fitting : ByteArray := prog_15_method_104_code
def yX6_fitting : MethodName := ⟨RX6, "fitting", "(I)I"⟩
def dkwX6_fitting_7 : List UInt8 := [167, 255, 142, 42, 180, 1, 154, 154, 0, 8, 42, 3, 181, 1, 160, 28, 172]
abbrev dktX6_fitting_7 : List UInt8 := dkwX6_fitting_7 ++ []
def dkwX6_fitting_6 : List UInt8 := [21, 4, 184, 1, 58, 153, 0, 7, 4, 167, 0, 4, 3, 96, 79, 132, 4, 1, 167, 255, 217, 132, 3, 1]
abbrev dktX6_fitting_6 : List UInt8 := dkwX6_fitting_6 ++ dktX6_fitting_7
def dkwX6_fitting_5 : List UInt8 := [3, 54, 4, 21, 4, 42, 180, 1, 47, 180, 1, 12, 162, 0, 33, 42, 180, 0, 42, 21, 4, 92, 46, 29]
abbrev dktX6_fitting_5 : List UInt8 := dkwX6_fitting_5 ++ dktX6_fitting_6
def dkwX6_fitting_4 : List UInt8 := [96, 181, 1, 154, 42, 89, 180, 1, 157, 29, 128, 181, 1, 157, 42, 89, 180, 1, 160, 29, 126, 181, 1, 160]
abbrev dktX6_fitting_4 : List UInt8 := dkwX6_fitting_4 ++ dktX6_fitting_5
def dkwX6_fitting_3 : List UInt8 := [16, 254, 159, 0, 6, 167, 0, 88, 42, 180, 1, 154, 27, 160, 0, 5, 29, 61, 42, 89, 180, 1, 154, 4]
abbrev dktX6_fitting_3 : List UInt8 := dkwX6_fitting_3 ++ dktX6_fitting_4
def dkwX6_fitting_2 : List UInt8 := [167, 255, 241, 3, 62, 29, 4, 42, 180, 1, 47, 180, 1, 12, 120, 162, 0, 107, 42, 29, 182, 1, 163]
abbrev dktX6_fitting_2 : List UInt8 := dkwX6_fitting_2 ++ dktX6_fitting_3
def dkwX6_fitting_1 : List UInt8 := [181, 1, 160, 2, 61, 3, 62, 29, 7, 162, 0, 16, 42, 180, 0, 42, 29, 3, 79, 132, 3, 1]
abbrev dktX6_fitting_1 : List UInt8 := dkwX6_fitting_1 ++ dktX6_fitting_2
def dkwX6_fitting_0 : List UInt8 := [42, 3, 181, 1, 154, 42, 3, 181, 1, 157, 42, 4, 42, 180, 1, 47, 180, 1, 12, 120, 4, 100]
abbrev dktX6_fitting_0 : List UInt8 := dkwX6_fitting_0 ++ dktX6_fitting_1
theorem dksX6_fitting_0 : cX6_fitting.data.toList.drop 0 = dktX6_fitting_0 := by decide +kernel
theorem dksX6_fitting_1 : cX6_fitting.data.toList.drop 22 = dktX6_fitting_1 := dk_seg dksX6_fitting_0 22 rfl rfl
theorem dksX6_fitting_2 : cX6_fitting.data.toList.drop 44 = dktX6_fitting_2 := dk_seg dksX6_fitting_1 22 rfl rfl
theorem dksX6_fitting_3 : cX6_fitting.data.toList.drop 67 = dktX6_fitting_3 := dk_seg dksX6_fitting_2 23 rfl rfl
theorem dksX6_fitting_4 : cX6_fitting.data.toList.drop 91 = dktX6_fitting_4 := dk_seg dksX6_fitting_3 24 rfl rfl
theorem dksX6_fitting_5 : cX6_fitting.data.toList.drop 115 = dktX6_fitting_5 := dk_seg dksX6_fitting_4 24 rfl rfl
theorem dksX6_fitting_6 : cX6_fitting.data.toList.drop 139 = dktX6_fitting_6 := dk_seg dksX6_fitting_5 24 rfl rfl
theorem dksX6_fitting_7 : cX6_fitting.data.toList.drop 163 = dktX6_fitting_7 := dk_seg dksX6_fitting_6 24 rfl rfl
theorem dX6_fitting_0 : decode cX6_fitting 0 = .ok (.aload_n 0, 1) := dk_42 (dk_at dksX6_fitting_0 0 rfl rfl)
theorem dX6_fitting_1 : decode cX6_fitting 1 = .ok (.iconst 0, 1) := dk_3 (dk_at dksX6_fitting_0 1 rfl rfl)
theorem dX6_fitting_2 : decode cX6_fitting 2 = .ok (.putfield 410, 3) := dk_181 1 154 (dk_at dksX6_fitting_0 2 rfl rfl)
theorem dX6_fitting_5 : decode cX6_fitting 5 = .ok (.aload_n 0, 1) := dk_42 (dk_at dksX6_fitting_0 5 rfl rfl)
theorem dX6_fitting_6 : decode cX6_fitting 6 = .ok (.iconst 0, 1) := dk_3 (dk_at dksX6_fitting_0 6 rfl rfl)
theorem dX6_fitting_7 : decode cX6_fitting 7 = .ok (.putfield 413, 3) := dk_181 1 157 (dk_at dksX6_fitting_0 7 rfl rfl)
theorem dX6_fitting_10 : decode cX6_fitting 10 = .ok (.aload_n 0, 1) := dk_42 (dk_at dksX6_fitting_0 10 rfl rfl)
theorem dX6_fitting_11 : decode cX6_fitting 11 = .ok (.iconst 1, 1) := dk_4 (dk_at dksX6_fitting_0 11 rfl rfl)
theorem dX6_fitting_12 : decode cX6_fitting 12 = .ok (.aload_n 0, 1) := dk_42 (dk_at dksX6_fitting_0 12 rfl rfl)
theorem dX6_fitting_13 : decode cX6_fitting 13 = .ok (.getfield 303, 3) := dk_180 1 47 (dk_at dksX6_fitting_0 13 rfl rfl)
theorem dX6_fitting_16 : decode cX6_fitting 16 = .ok (.getfield 268, 3) := dk_180 1 12 (dk_at dksX6_fitting_0 16 rfl rfl)
theorem dX6_fitting_19 : decode cX6_fitting 19 = .ok (.ishl, 1) := dk_120 (dk_at dksX6_fitting_0 19 rfl rfl)
theorem dX6_fitting_20 : decode cX6_fitting 20 = .ok (.iconst 1, 1) := dk_4 (dk_at dksX6_fitting_0 20 rfl rfl)
theorem dX6_fitting_21 : decode cX6_fitting 21 = .ok (.isub, 1) := dk_100 (dk_at dksX6_fitting_0 21 rfl rfl)
theorem dX6_fitting_22 : decode cX6_fitting 22 = .ok (.putfield 416, 3) := dk_181 1 160 (dk_at dksX6_fitting_1 0 rfl rfl)
theorem dX6_fitting_25 : decode cX6_fitting 25 = .ok (.iconst (-1), 1) := dk_2 (dk_at dksX6_fitting_1 3 rfl rfl)
theorem dX6_fitting_26 : decode cX6_fitting 26 = .ok (.istore_n 2, 1) := dk_61 (dk_at dksX6_fitting_1 4 rfl rfl)
theorem dX6_fitting_27 : decode cX6_fitting 27 = .ok (.iconst 0, 1) := dk_3 (dk_at dksX6_fitting_1 5 rfl rfl)
theorem dX6_fitting_28 : decode cX6_fitting 28 = .ok (.istore_n 3, 1) := dk_62 (dk_at dksX6_fitting_1 6 rfl rfl)
theorem dX6_fitting_29 : decode cX6_fitting 29 = .ok (.iload_n 3, 1) := dk_29 (dk_at dksX6_fitting_1 7 rfl rfl)
theorem dX6_fitting_30 : decode cX6_fitting 30 = .ok (.iconst 4, 1) := dk_7 (dk_at dksX6_fitting_1 8 rfl rfl)
theorem dX6_fitting_31 : decode cX6_fitting 31 = .ok (.if_icmp .ge 16, 3) := dk_162 0 16 (dk_at dksX6_fitting_1 9 rfl rfl)
theorem dX6_fitting_34 : decode cX6_fitting 34 = .ok (.aload_n 0, 1) := dk_42 (dk_at dksX6_fitting_1 12 rfl rfl)
theorem dX6_fitting_35 : decode cX6_fitting 35 = .ok (.getfield 42, 3) := dk_180 0 42 (dk_at dksX6_fitting_1 13 rfl rfl)
theorem dX6_fitting_38 : decode cX6_fitting 38 = .ok (.iload_n 3, 1) := dk_29 (dk_at dksX6_fitting_1 16 rfl rfl)
theorem dX6_fitting_39 : decode cX6_fitting 39 = .ok (.iconst 0, 1) := dk_3 (dk_at dksX6_fitting_1 17 rfl rfl)
theorem dX6_fitting_40 : decode cX6_fitting 40 = .ok (.iastore, 1) := dk_79 (dk_at dksX6_fitting_1 18 rfl rfl)
theorem dX6_fitting_41 : decode cX6_fitting 41 = .ok (.iinc 3 1, 3) := dk_132 3 1 (dk_at dksX6_fitting_1 19 rfl rfl)
theorem dX6_fitting_44 : decode cX6_fitting 44 = .ok (.goto (-15), 3) := dk_167 255 241 (dk_at dksX6_fitting_2 0 rfl rfl)
theorem dX6_fitting_47 : decode cX6_fitting 47 = .ok (.iconst 0, 1) := dk_3 (dk_at dksX6_fitting_2 3 rfl rfl)
theorem dX6_fitting_48 : decode cX6_fitting 48 = .ok (.istore_n 3, 1) := dk_62 (dk_at dksX6_fitting_2 4 rfl rfl)
theorem dX6_fitting_49 : decode cX6_fitting 49 = .ok (.iload_n 3, 1) := dk_29 (dk_at dksX6_fitting_2 5 rfl rfl)
theorem dX6_fitting_50 : decode cX6_fitting 50 = .ok (.iconst 1, 1) := dk_4 (dk_at dksX6_fitting_2 6 rfl rfl)
theorem dX6_fitting_51 : decode cX6_fitting 51 = .ok (.aload_n 0, 1) := dk_42 (dk_at dksX6_fitting_2 7 rfl rfl)
theorem dX6_fitting_52 : decode cX6_fitting 52 = .ok (.getfield 303, 3) := dk_180 1 47 (dk_at dksX6_fitting_2 8 rfl rfl)
theorem dX6_fitting_55 : decode cX6_fitting 55 = .ok (.getfield 268, 3) := dk_180 1 12 (dk_at dksX6_fitting_2 11 rfl rfl)
theorem dX6_fitting_58 : decode cX6_fitting 58 = .ok (.ishl, 1) := dk_120 (dk_at dksX6_fitting_2 14 rfl rfl)
theorem dX6_fitting_59 : decode cX6_fitting 59 = .ok (.if_icmp .ge 107, 3) := dk_162 0 107 (dk_at dksX6_fitting_2 15 rfl rfl)
theorem dX6_fitting_62 : decode cX6_fitting 62 = .ok (.aload_n 0, 1) := dk_42 (dk_at dksX6_fitting_2 18 rfl rfl)
theorem dX6_fitting_63 : decode cX6_fitting 63 = .ok (.iload_n 3, 1) := dk_29 (dk_at dksX6_fitting_2 19 rfl rfl)
theorem dX6_fitting_64 : decode cX6_fitting 64 = .ok (.invokevirtual 419, 3) := dk_182 1 163 (dk_at dksX6_fitting_2 20 rfl rfl)
theorem dX6_fitting_67 : decode cX6_fitting 67 = .ok (.bipush (-2), 2) := dk_16 254 (dk_at dksX6_fitting_3 0 rfl rfl)
theorem dX6_fitting_69 : decode cX6_fitting 69 = .ok (.if_icmp .eq 6, 3) := dk_159 0 6 (dk_at dksX6_fitting_3 2 rfl rfl)
theorem dX6_fitting_72 : decode cX6_fitting 72 = .ok (.goto 88, 3) := dk_167 0 88 (dk_at dksX6_fitting_3 5 rfl rfl)
theorem dX6_fitting_75 : decode cX6_fitting 75 = .ok (.aload_n 0, 1) := dk_42 (dk_at dksX6_fitting_3 8 rfl rfl)
theorem dX6_fitting_76 : decode cX6_fitting 76 = .ok (.getfield 410, 3) := dk_180 1 154 (dk_at dksX6_fitting_3 9 rfl rfl)
theorem dX6_fitting_79 : decode cX6_fitting 79 = .ok (.iload_n 1, 1) := dk_27 (dk_at dksX6_fitting_3 12 rfl rfl)
theorem dX6_fitting_80 : decode cX6_fitting 80 = .ok (.if_icmp .ne 5, 3) := dk_160 0 5 (dk_at dksX6_fitting_3 13 rfl rfl)
theorem dX6_fitting_83 : decode cX6_fitting 83 = .ok (.iload_n 3, 1) := dk_29 (dk_at dksX6_fitting_3 16 rfl rfl)
theorem dX6_fitting_84 : decode cX6_fitting 84 = .ok (.istore_n 2, 1) := dk_61 (dk_at dksX6_fitting_3 17 rfl rfl)
theorem dX6_fitting_85 : decode cX6_fitting 85 = .ok (.aload_n 0, 1) := dk_42 (dk_at dksX6_fitting_3 18 rfl rfl)
theorem dX6_fitting_86 : decode cX6_fitting 86 = .ok (.dup, 1) := dk_89 (dk_at dksX6_fitting_3 19 rfl rfl)
theorem dX6_fitting_87 : decode cX6_fitting 87 = .ok (.getfield 410, 3) := dk_180 1 154 (dk_at dksX6_fitting_3 20 rfl rfl)
theorem dX6_fitting_90 : decode cX6_fitting 90 = .ok (.iconst 1, 1) := dk_4 (dk_at dksX6_fitting_3 23 rfl rfl)
theorem dX6_fitting_91 : decode cX6_fitting 91 = .ok (.iadd, 1) := dk_96 (dk_at dksX6_fitting_4 0 rfl rfl)
theorem dX6_fitting_92 : decode cX6_fitting 92 = .ok (.putfield 410, 3) := dk_181 1 154 (dk_at dksX6_fitting_4 1 rfl rfl)
theorem dX6_fitting_95 : decode cX6_fitting 95 = .ok (.aload_n 0, 1) := dk_42 (dk_at dksX6_fitting_4 4 rfl rfl)
theorem dX6_fitting_96 : decode cX6_fitting 96 = .ok (.dup, 1) := dk_89 (dk_at dksX6_fitting_4 5 rfl rfl)
theorem dX6_fitting_97 : decode cX6_fitting 97 = .ok (.getfield 413, 3) := dk_180 1 157 (dk_at dksX6_fitting_4 6 rfl rfl)
theorem dX6_fitting_100 : decode cX6_fitting 100 = .ok (.iload_n 3, 1) := dk_29 (dk_at dksX6_fitting_4 9 rfl rfl)
theorem dX6_fitting_101 : decode cX6_fitting 101 = .ok (.ior, 1) := dk_128 (dk_at dksX6_fitting_4 10 rfl rfl)
theorem dX6_fitting_102 : decode cX6_fitting 102 = .ok (.putfield 413, 3) := dk_181 1 157 (dk_at dksX6_fitting_4 11 rfl rfl)
theorem dX6_fitting_105 : decode cX6_fitting 105 = .ok (.aload_n 0, 1) := dk_42 (dk_at dksX6_fitting_4 14 rfl rfl)
theorem dX6_fitting_106 : decode cX6_fitting 106 = .ok (.dup, 1) := dk_89 (dk_at dksX6_fitting_4 15 rfl rfl)
theorem dX6_fitting_107 : decode cX6_fitting 107 = .ok (.getfield 416, 3) := dk_180 1 160 (dk_at dksX6_fitting_4 16 rfl rfl)
theorem dX6_fitting_110 : decode cX6_fitting 110 = .ok (.iload_n 3, 1) := dk_29 (dk_at dksX6_fitting_4 19 rfl rfl)
theorem dX6_fitting_111 : decode cX6_fitting 111 = .ok (.iand, 1) := dk_126 (dk_at dksX6_fitting_4 20 rfl rfl)
theorem dX6_fitting_112 : decode cX6_fitting 112 = .ok (.putfield 416, 3) := dk_181 1 160 (dk_at dksX6_fitting_4 21 rfl rfl)
theorem dX6_fitting_115 : decode cX6_fitting 115 = .ok (.iconst 0, 1) := dk_3 (dk_at dksX6_fitting_5 0 rfl rfl)
theorem dX6_fitting_116 : decode cX6_fitting 116 = .ok (.istore 4, 2) := dk_54 4 (dk_at dksX6_fitting_5 1 rfl rfl)
theorem dX6_fitting_118 : decode cX6_fitting 118 = .ok (.iload 4, 2) := dk_21 4 (dk_at dksX6_fitting_5 3 rfl rfl)
theorem dX6_fitting_120 : decode cX6_fitting 120 = .ok (.aload_n 0, 1) := dk_42 (dk_at dksX6_fitting_5 5 rfl rfl)
theorem dX6_fitting_121 : decode cX6_fitting 121 = .ok (.getfield 303, 3) := dk_180 1 47 (dk_at dksX6_fitting_5 6 rfl rfl)
theorem dX6_fitting_124 : decode cX6_fitting 124 = .ok (.getfield 268, 3) := dk_180 1 12 (dk_at dksX6_fitting_5 9 rfl rfl)
theorem dX6_fitting_127 : decode cX6_fitting 127 = .ok (.if_icmp .ge 33, 3) := dk_162 0 33 (dk_at dksX6_fitting_5 12 rfl rfl)
theorem dX6_fitting_130 : decode cX6_fitting 130 = .ok (.aload_n 0, 1) := dk_42 (dk_at dksX6_fitting_5 15 rfl rfl)
theorem dX6_fitting_131 : decode cX6_fitting 131 = .ok (.getfield 42, 3) := dk_180 0 42 (dk_at dksX6_fitting_5 16 rfl rfl)
theorem dX6_fitting_134 : decode cX6_fitting 134 = .ok (.iload 4, 2) := dk_21 4 (dk_at dksX6_fitting_5 19 rfl rfl)
theorem dX6_fitting_136 : decode cX6_fitting 136 = .ok (.dup2, 1) := dk_92 (dk_at dksX6_fitting_5 21 rfl rfl)
theorem dX6_fitting_137 : decode cX6_fitting 137 = .ok (.iaload, 1) := dk_46 (dk_at dksX6_fitting_5 22 rfl rfl)
theorem dX6_fitting_138 : decode cX6_fitting 138 = .ok (.iload_n 3, 1) := dk_29 (dk_at dksX6_fitting_5 23 rfl rfl)
theorem dX6_fitting_139 : decode cX6_fitting 139 = .ok (.iload 4, 2) := dk_21 4 (dk_at dksX6_fitting_6 0 rfl rfl)
theorem dX6_fitting_141 : decode cX6_fitting 141 = .ok (.invokestatic 314, 3) := dk_184 1 58 (dk_at dksX6_fitting_6 2 rfl rfl)
theorem dX6_fitting_144 : decode cX6_fitting 144 = .ok (.ifCond .eq 7, 3) := dk_153 0 7 (dk_at dksX6_fitting_6 5 rfl rfl)
theorem dX6_fitting_147 : decode cX6_fitting 147 = .ok (.iconst 1, 1) := dk_4 (dk_at dksX6_fitting_6 8 rfl rfl)
theorem dX6_fitting_148 : decode cX6_fitting 148 = .ok (.goto 4, 3) := dk_167 0 4 (dk_at dksX6_fitting_6 9 rfl rfl)
theorem dX6_fitting_151 : decode cX6_fitting 151 = .ok (.iconst 0, 1) := dk_3 (dk_at dksX6_fitting_6 12 rfl rfl)
theorem dX6_fitting_152 : decode cX6_fitting 152 = .ok (.iadd, 1) := dk_96 (dk_at dksX6_fitting_6 13 rfl rfl)
theorem dX6_fitting_153 : decode cX6_fitting 153 = .ok (.iastore, 1) := dk_79 (dk_at dksX6_fitting_6 14 rfl rfl)
theorem dX6_fitting_154 : decode cX6_fitting 154 = .ok (.iinc 4 1, 3) := dk_132 4 1 (dk_at dksX6_fitting_6 15 rfl rfl)
theorem dX6_fitting_157 : decode cX6_fitting 157 = .ok (.goto (-39), 3) := dk_167 255 217 (dk_at dksX6_fitting_6 18 rfl rfl)
theorem dX6_fitting_160 : decode cX6_fitting 160 = .ok (.iinc 3 1, 3) := dk_132 3 1 (dk_at dksX6_fitting_6 21 rfl rfl)
theorem dX6_fitting_163 : decode cX6_fitting 163 = .ok (.goto (-114), 3) := dk_167 255 142 (dk_at dksX6_fitting_7 0 rfl rfl)
theorem dX6_fitting_166 : decode cX6_fitting 166 = .ok (.aload_n 0, 1) := dk_42 (dk_at dksX6_fitting_7 3 rfl rfl)
theorem dX6_fitting_167 : decode cX6_fitting 167 = .ok (.getfield 410, 3) := dk_180 1 154 (dk_at dksX6_fitting_7 4 rfl rfl)
theorem dX6_fitting_170 : decode cX6_fitting 170 = .ok (.ifCond .ne 8, 3) := dk_154 0 8 (dk_at dksX6_fitting_7 7 rfl rfl)
theorem dX6_fitting_173 : decode cX6_fitting 173 = .ok (.aload_n 0, 1) := dk_42 (dk_at dksX6_fitting_7 10 rfl rfl)
theorem dX6_fitting_174 : decode cX6_fitting 174 = .ok (.iconst 0, 1) := dk_3 (dk_at dksX6_fitting_7 11 rfl rfl)
theorem dX6_fitting_175 : decode cX6_fitting 175 = .ok (.putfield 416, 3) := dk_181 1 160 (dk_at dksX6_fitting_7 12 rfl rfl)
theorem dX6_fitting_178 : decode cX6_fitting 178 = .ok (.iload_n 2, 1) := dk_28 (dk_at dksX6_fitting_7 15 rfl rfl)
theorem dX6_fitting_179 : decode cX6_fitting 179 = .ok (.ireturn, 1) := dk_172 (dk_at dksX6_fitting_7 16 rfl rfl)
abbrev cX6_wrongHeard : ByteArray := prog_15_method_103_code
def yX6_wrongHeard : MethodName := ⟨RX6, "wrongHeard", "(I)I"⟩
def dkwX6_wrongHeard_2 : List UInt8 := [28, 46, 159, 0, 5, 28, 172, 132, 2, 1, 167, 255, 206, 16, 254, 172]
abbrev dktX6_wrongHeard_2 : List UInt8 := dkwX6_wrongHeard_2 ++ []
def dkwX6_wrongHeard_1 : List UInt8 := [180, 1, 35, 28, 46, 42, 180, 1, 47, 180, 1, 37, 28, 46, 182, 1, 77, 42, 180, 1, 47, 180, 1, 32]
abbrev dktX6_wrongHeard_1 : List UInt8 := dkwX6_wrongHeard_1 ++ dktX6_wrongHeard_2
def dkwX6_wrongHeard_0 : List UInt8 := [42, 27, 182, 1, 49, 3, 61, 28, 42, 180, 1, 47, 180, 1, 23, 162, 0, 45, 42, 42, 180, 1, 47]
abbrev dktX6_wrongHeard_0 : List UInt8 := dkwX6_wrongHeard_0 ++ dktX6_wrongHeard_1
theorem dksX6_wrongHeard_0 : cX6_wrongHeard.data.toList.drop 0 = dktX6_wrongHeard_0 := by decide +kernel
theorem dksX6_wrongHeard_1 : cX6_wrongHeard.data.toList.drop 23 = dktX6_wrongHeard_1 := dk_seg dksX6_wrongHeard_0 23 rfl rfl
theorem dksX6_wrongHeard_2 : cX6_wrongHeard.data.toList.drop 47 = dktX6_wrongHeard_2 := dk_seg dksX6_wrongHeard_1 24 rfl rfl
theorem dX6_wrongHeard_0 : decode cX6_wrongHeard 0 = .ok (.aload_n 0, 1) := dk_42 (dk_at dksX6_wrongHeard_0 0 rfl rfl)
theorem dX6_wrongHeard_1 : decode cX6_wrongHeard 1 = .ok (.iload_n 1, 1) := dk_27 (dk_at dksX6_wrongHeard_0 1 rfl rfl)
theorem dX6_wrongHeard_2 : decode cX6_wrongHeard 2 = .ok (.invokevirtual 305, 3) := dk_182 1 49 (dk_at dksX6_wrongHeard_0 2 rfl rfl)
theorem dX6_wrongHeard_5 : decode cX6_wrongHeard 5 = .ok (.iconst 0, 1) := dk_3 (dk_at dksX6_wrongHeard_0 5 rfl rfl)
theorem dX6_wrongHeard_6 : decode cX6_wrongHeard 6 = .ok (.istore_n 2, 1) := dk_61 (dk_at dksX6_wrongHeard_0 6 rfl rfl)
theorem dX6_wrongHeard_7 : decode cX6_wrongHeard 7 = .ok (.iload_n 2, 1) := dk_28 (dk_at dksX6_wrongHeard_0 7 rfl rfl)
theorem dX6_wrongHeard_8 : decode cX6_wrongHeard 8 = .ok (.aload_n 0, 1) := dk_42 (dk_at dksX6_wrongHeard_0 8 rfl rfl)
theorem dX6_wrongHeard_9 : decode cX6_wrongHeard 9 = .ok (.getfield 303, 3) := dk_180 1 47 (dk_at dksX6_wrongHeard_0 9 rfl rfl)
theorem dX6_wrongHeard_12 : decode cX6_wrongHeard 12 = .ok (.getfield 279, 3) := dk_180 1 23 (dk_at dksX6_wrongHeard_0 12 rfl rfl)
theorem dX6_wrongHeard_15 : decode cX6_wrongHeard 15 = .ok (.if_icmp .ge 45, 3) := dk_162 0 45 (dk_at dksX6_wrongHeard_0 15 rfl rfl)
theorem dX6_wrongHeard_18 : decode cX6_wrongHeard 18 = .ok (.aload_n 0, 1) := dk_42 (dk_at dksX6_wrongHeard_0 18 rfl rfl)
theorem dX6_wrongHeard_19 : decode cX6_wrongHeard 19 = .ok (.aload_n 0, 1) := dk_42 (dk_at dksX6_wrongHeard_0 19 rfl rfl)
theorem dX6_wrongHeard_20 : decode cX6_wrongHeard 20 = .ok (.getfield 303, 3) := dk_180 1 47 (dk_at dksX6_wrongHeard_0 20 rfl rfl)
theorem dX6_wrongHeard_23 : decode cX6_wrongHeard 23 = .ok (.getfield 291, 3) := dk_180 1 35 (dk_at dksX6_wrongHeard_1 0 rfl rfl)
theorem dX6_wrongHeard_26 : decode cX6_wrongHeard 26 = .ok (.iload_n 2, 1) := dk_28 (dk_at dksX6_wrongHeard_1 3 rfl rfl)
theorem dX6_wrongHeard_27 : decode cX6_wrongHeard 27 = .ok (.iaload, 1) := dk_46 (dk_at dksX6_wrongHeard_1 4 rfl rfl)
theorem dX6_wrongHeard_28 : decode cX6_wrongHeard 28 = .ok (.aload_n 0, 1) := dk_42 (dk_at dksX6_wrongHeard_1 5 rfl rfl)
theorem dX6_wrongHeard_29 : decode cX6_wrongHeard 29 = .ok (.getfield 303, 3) := dk_180 1 47 (dk_at dksX6_wrongHeard_1 6 rfl rfl)
theorem dX6_wrongHeard_32 : decode cX6_wrongHeard 32 = .ok (.getfield 293, 3) := dk_180 1 37 (dk_at dksX6_wrongHeard_1 9 rfl rfl)
theorem dX6_wrongHeard_35 : decode cX6_wrongHeard 35 = .ok (.iload_n 2, 1) := dk_28 (dk_at dksX6_wrongHeard_1 12 rfl rfl)
theorem dX6_wrongHeard_36 : decode cX6_wrongHeard 36 = .ok (.iaload, 1) := dk_46 (dk_at dksX6_wrongHeard_1 13 rfl rfl)
theorem dX6_wrongHeard_37 : decode cX6_wrongHeard 37 = .ok (.invokevirtual 333, 3) := dk_182 1 77 (dk_at dksX6_wrongHeard_1 14 rfl rfl)
theorem dX6_wrongHeard_40 : decode cX6_wrongHeard 40 = .ok (.aload_n 0, 1) := dk_42 (dk_at dksX6_wrongHeard_1 17 rfl rfl)
theorem dX6_wrongHeard_41 : decode cX6_wrongHeard 41 = .ok (.getfield 303, 3) := dk_180 1 47 (dk_at dksX6_wrongHeard_1 18 rfl rfl)
theorem dX6_wrongHeard_44 : decode cX6_wrongHeard 44 = .ok (.getfield 288, 3) := dk_180 1 32 (dk_at dksX6_wrongHeard_1 21 rfl rfl)
theorem dX6_wrongHeard_47 : decode cX6_wrongHeard 47 = .ok (.iload_n 2, 1) := dk_28 (dk_at dksX6_wrongHeard_2 0 rfl rfl)
theorem dX6_wrongHeard_48 : decode cX6_wrongHeard 48 = .ok (.iaload, 1) := dk_46 (dk_at dksX6_wrongHeard_2 1 rfl rfl)
theorem dX6_wrongHeard_49 : decode cX6_wrongHeard 49 = .ok (.if_icmp .eq 5, 3) := dk_159 0 5 (dk_at dksX6_wrongHeard_2 2 rfl rfl)
theorem dX6_wrongHeard_52 : decode cX6_wrongHeard 52 = .ok (.iload_n 2, 1) := dk_28 (dk_at dksX6_wrongHeard_2 5 rfl rfl)
theorem dX6_wrongHeard_53 : decode cX6_wrongHeard 53 = .ok (.ireturn, 1) := dk_172 (dk_at dksX6_wrongHeard_2 6 rfl rfl)
theorem dX6_wrongHeard_54 : decode cX6_wrongHeard 54 = .ok (.iinc 2 1, 3) := dk_132 2 1 (dk_at dksX6_wrongHeard_2 7 rfl rfl)
theorem dX6_wrongHeard_57 : decode cX6_wrongHeard 57 = .ok (.goto (-50), 3) := dk_167 255 206 (dk_at dksX6_wrongHeard_2 10 rfl rfl)
theorem dX6_wrongHeard_60 : decode cX6_wrongHeard 60 = .ok (.bipush (-2), 2) := dk_16 254 (dk_at dksX6_wrongHeard_2 13 rfl rfl)
theorem dX6_wrongHeard_62 : decode cX6_wrongHeard 62 = .ok (.ireturn, 1) := dk_172 (dk_at dksX6_wrongHeard_2 15 rfl rfl)
abbrev cX6_fitAt : ByteArray := prog_15_method_106_code
def yX6_fitAt : MethodName := ⟨RX6, "fitAt", "(I)I"⟩
def dkwX6_fitAt_1 : List UInt8 := [182, 1, 166, 61, 28, 2, 160, 0, 11, 42, 4, 182, 0, 55, 167, 0, 8, 42, 28, 182, 0, 59, 172]
abbrev dktX6_fitAt_1 : List UInt8 := dkwX6_fitAt_1 ++ []
def dkwX6_fitAt_0 : List UInt8 := [42, 3, 181, 0, 49, 42, 180, 1, 47, 198, 0, 7, 27, 156, 0, 9, 42, 4, 182, 0, 55, 172, 42, 27]
abbrev dktX6_fitAt_0 : List UInt8 := dkwX6_fitAt_0 ++ dktX6_fitAt_1
theorem dksX6_fitAt_0 : cX6_fitAt.data.toList.drop 0 = dktX6_fitAt_0 := by decide +kernel
theorem dksX6_fitAt_1 : cX6_fitAt.data.toList.drop 24 = dktX6_fitAt_1 := dk_seg dksX6_fitAt_0 24 rfl rfl
theorem dX6_fitAt_0 : decode cX6_fitAt 0 = .ok (.aload_n 0, 1) := dk_42 (dk_at dksX6_fitAt_0 0 rfl rfl)
theorem dX6_fitAt_1 : decode cX6_fitAt 1 = .ok (.iconst 0, 1) := dk_3 (dk_at dksX6_fitAt_0 1 rfl rfl)
theorem dX6_fitAt_2 : decode cX6_fitAt 2 = .ok (.putfield 49, 3) := dk_181 0 49 (dk_at dksX6_fitAt_0 2 rfl rfl)
theorem dX6_fitAt_5 : decode cX6_fitAt 5 = .ok (.aload_n 0, 1) := dk_42 (dk_at dksX6_fitAt_0 5 rfl rfl)
theorem dX6_fitAt_6 : decode cX6_fitAt 6 = .ok (.getfield 303, 3) := dk_180 1 47 (dk_at dksX6_fitAt_0 6 rfl rfl)
theorem dX6_fitAt_9 : decode cX6_fitAt 9 = .ok (.ifnull 7, 3) := dk_198 0 7 (dk_at dksX6_fitAt_0 9 rfl rfl)
theorem dX6_fitAt_12 : decode cX6_fitAt 12 = .ok (.iload_n 1, 1) := dk_27 (dk_at dksX6_fitAt_0 12 rfl rfl)
theorem dX6_fitAt_13 : decode cX6_fitAt 13 = .ok (.ifCond .ge 9, 3) := dk_156 0 9 (dk_at dksX6_fitAt_0 13 rfl rfl)
theorem dX6_fitAt_16 : decode cX6_fitAt 16 = .ok (.aload_n 0, 1) := dk_42 (dk_at dksX6_fitAt_0 16 rfl rfl)
theorem dX6_fitAt_17 : decode cX6_fitAt 17 = .ok (.iconst 1, 1) := dk_4 (dk_at dksX6_fitAt_0 17 rfl rfl)
theorem dX6_fitAt_18 : decode cX6_fitAt 18 = .ok (.invokevirtual 55, 3) := dk_182 0 55 (dk_at dksX6_fitAt_0 18 rfl rfl)
theorem dX6_fitAt_21 : decode cX6_fitAt 21 = .ok (.ireturn, 1) := dk_172 (dk_at dksX6_fitAt_0 21 rfl rfl)
theorem dX6_fitAt_22 : decode cX6_fitAt 22 = .ok (.aload_n 0, 1) := dk_42 (dk_at dksX6_fitAt_0 22 rfl rfl)
theorem dX6_fitAt_23 : decode cX6_fitAt 23 = .ok (.iload_n 1, 1) := dk_27 (dk_at dksX6_fitAt_0 23 rfl rfl)
theorem dX6_fitAt_24 : decode cX6_fitAt 24 = .ok (.invokevirtual 422, 3) := dk_182 1 166 (dk_at dksX6_fitAt_1 0 rfl rfl)
theorem dX6_fitAt_27 : decode cX6_fitAt 27 = .ok (.istore_n 2, 1) := dk_61 (dk_at dksX6_fitAt_1 3 rfl rfl)
theorem dX6_fitAt_28 : decode cX6_fitAt 28 = .ok (.iload_n 2, 1) := dk_28 (dk_at dksX6_fitAt_1 4 rfl rfl)
theorem dX6_fitAt_29 : decode cX6_fitAt 29 = .ok (.iconst (-1), 1) := dk_2 (dk_at dksX6_fitAt_1 5 rfl rfl)
theorem dX6_fitAt_30 : decode cX6_fitAt 30 = .ok (.if_icmp .ne 11, 3) := dk_160 0 11 (dk_at dksX6_fitAt_1 6 rfl rfl)
theorem dX6_fitAt_33 : decode cX6_fitAt 33 = .ok (.aload_n 0, 1) := dk_42 (dk_at dksX6_fitAt_1 9 rfl rfl)
theorem dX6_fitAt_34 : decode cX6_fitAt 34 = .ok (.iconst 1, 1) := dk_4 (dk_at dksX6_fitAt_1 10 rfl rfl)
theorem dX6_fitAt_35 : decode cX6_fitAt 35 = .ok (.invokevirtual 55, 3) := dk_182 0 55 (dk_at dksX6_fitAt_1 11 rfl rfl)
theorem dX6_fitAt_38 : decode cX6_fitAt 38 = .ok (.goto 8, 3) := dk_167 0 8 (dk_at dksX6_fitAt_1 14 rfl rfl)
theorem dX6_fitAt_41 : decode cX6_fitAt 41 = .ok (.aload_n 0, 1) := dk_42 (dk_at dksX6_fitAt_1 17 rfl rfl)
theorem dX6_fitAt_42 : decode cX6_fitAt 42 = .ok (.iload_n 2, 1) := dk_28 (dk_at dksX6_fitAt_1 18 rfl rfl)
theorem dX6_fitAt_43 : decode cX6_fitAt 43 = .ok (.invokevirtual 59, 3) := dk_182 0 59 (dk_at dksX6_fitAt_1 19 rfl rfl)
theorem dX6_fitAt_46 : decode cX6_fitAt 46 = .ok (.ireturn, 1) := dk_172 (dk_at dksX6_fitAt_1 22 rfl rfl)
abbrev cX6_could : ByteArray := prog_15_method_107_code
def yX6_could : MethodName := ⟨RX6, "could", "()I"⟩
def dkwX6_could_1 : List UInt8 := [42, 42, 180, 1, 157, 182, 0, 59, 172]
abbrev dktX6_could_1 : List UInt8 := dkwX6_could_1 ++ []
def dkwX6_could_0 : List UInt8 := [42, 3, 181, 0, 49, 42, 180, 1, 47, 199, 0, 9, 42, 4, 182, 0, 55, 172, 42, 2, 182, 1, 166, 87]
abbrev dktX6_could_0 : List UInt8 := dkwX6_could_0 ++ dktX6_could_1
theorem dksX6_could_0 : cX6_could.data.toList.drop 0 = dktX6_could_0 := by decide +kernel
theorem dksX6_could_1 : cX6_could.data.toList.drop 24 = dktX6_could_1 := dk_seg dksX6_could_0 24 rfl rfl
theorem dX6_could_0 : decode cX6_could 0 = .ok (.aload_n 0, 1) := dk_42 (dk_at dksX6_could_0 0 rfl rfl)
theorem dX6_could_1 : decode cX6_could 1 = .ok (.iconst 0, 1) := dk_3 (dk_at dksX6_could_0 1 rfl rfl)
theorem dX6_could_2 : decode cX6_could 2 = .ok (.putfield 49, 3) := dk_181 0 49 (dk_at dksX6_could_0 2 rfl rfl)
theorem dX6_could_5 : decode cX6_could 5 = .ok (.aload_n 0, 1) := dk_42 (dk_at dksX6_could_0 5 rfl rfl)
theorem dX6_could_6 : decode cX6_could 6 = .ok (.getfield 303, 3) := dk_180 1 47 (dk_at dksX6_could_0 6 rfl rfl)
theorem dX6_could_9 : decode cX6_could 9 = .ok (.ifnonnull 9, 3) := dk_199 0 9 (dk_at dksX6_could_0 9 rfl rfl)
theorem dX6_could_12 : decode cX6_could 12 = .ok (.aload_n 0, 1) := dk_42 (dk_at dksX6_could_0 12 rfl rfl)
theorem dX6_could_13 : decode cX6_could 13 = .ok (.iconst 1, 1) := dk_4 (dk_at dksX6_could_0 13 rfl rfl)
theorem dX6_could_14 : decode cX6_could 14 = .ok (.invokevirtual 55, 3) := dk_182 0 55 (dk_at dksX6_could_0 14 rfl rfl)
theorem dX6_could_17 : decode cX6_could 17 = .ok (.ireturn, 1) := dk_172 (dk_at dksX6_could_0 17 rfl rfl)
theorem dX6_could_18 : decode cX6_could 18 = .ok (.aload_n 0, 1) := dk_42 (dk_at dksX6_could_0 18 rfl rfl)
theorem dX6_could_19 : decode cX6_could 19 = .ok (.iconst (-1), 1) := dk_2 (dk_at dksX6_could_0 19 rfl rfl)
theorem dX6_could_20 : decode cX6_could 20 = .ok (.invokevirtual 422, 3) := dk_182 1 166 (dk_at dksX6_could_0 20 rfl rfl)
theorem dX6_could_23 : decode cX6_could 23 = .ok (.pop, 1) := dk_87 (dk_at dksX6_could_0 23 rfl rfl)
theorem dX6_could_24 : decode cX6_could 24 = .ok (.aload_n 0, 1) := dk_42 (dk_at dksX6_could_1 0 rfl rfl)
theorem dX6_could_25 : decode cX6_could 25 = .ok (.aload_n 0, 1) := dk_42 (dk_at dksX6_could_1 1 rfl rfl)
theorem dX6_could_26 : decode cX6_could 26 = .ok (.getfield 413, 3) := dk_180 1 157 (dk_at dksX6_could_1 2 rfl rfl)
theorem dX6_could_29 : decode cX6_could 29 = .ok (.invokevirtual 59, 3) := dk_182 0 59 (dk_at dksX6_could_1 5 rfl rfl)
theorem dX6_could_32 : decode cX6_could 32 = .ok (.ireturn, 1) := dk_172 (dk_at dksX6_could_1 8 rfl rfl)
abbrev cX6_surely : ByteArray := prog_15_method_108_code
def yX6_surely : MethodName := ⟨RX6, "surely", "()I"⟩
def dkwX6_surely_1 : List UInt8 := [42, 42, 180, 1, 160, 182, 0, 59, 172]
abbrev dktX6_surely_1 : List UInt8 := dkwX6_surely_1 ++ []
def dkwX6_surely_0 : List UInt8 := [42, 3, 181, 0, 49, 42, 180, 1, 47, 199, 0, 9, 42, 4, 182, 0, 55, 172, 42, 2, 182, 1, 166, 87]
abbrev dktX6_surely_0 : List UInt8 := dkwX6_surely_0 ++ dktX6_surely_1
theorem dksX6_surely_0 : cX6_surely.data.toList.drop 0 = dktX6_surely_0 := by decide +kernel
theorem dksX6_surely_1 : cX6_surely.data.toList.drop 24 = dktX6_surely_1 := dk_seg dksX6_surely_0 24 rfl rfl
theorem dX6_surely_0 : decode cX6_surely 0 = .ok (.aload_n 0, 1) := dk_42 (dk_at dksX6_surely_0 0 rfl rfl)
theorem dX6_surely_1 : decode cX6_surely 1 = .ok (.iconst 0, 1) := dk_3 (dk_at dksX6_surely_0 1 rfl rfl)
theorem dX6_surely_2 : decode cX6_surely 2 = .ok (.putfield 49, 3) := dk_181 0 49 (dk_at dksX6_surely_0 2 rfl rfl)
theorem dX6_surely_5 : decode cX6_surely 5 = .ok (.aload_n 0, 1) := dk_42 (dk_at dksX6_surely_0 5 rfl rfl)
theorem dX6_surely_6 : decode cX6_surely 6 = .ok (.getfield 303, 3) := dk_180 1 47 (dk_at dksX6_surely_0 6 rfl rfl)
theorem dX6_surely_9 : decode cX6_surely 9 = .ok (.ifnonnull 9, 3) := dk_199 0 9 (dk_at dksX6_surely_0 9 rfl rfl)
theorem dX6_surely_12 : decode cX6_surely 12 = .ok (.aload_n 0, 1) := dk_42 (dk_at dksX6_surely_0 12 rfl rfl)
theorem dX6_surely_13 : decode cX6_surely 13 = .ok (.iconst 1, 1) := dk_4 (dk_at dksX6_surely_0 13 rfl rfl)
theorem dX6_surely_14 : decode cX6_surely 14 = .ok (.invokevirtual 55, 3) := dk_182 0 55 (dk_at dksX6_surely_0 14 rfl rfl)
theorem dX6_surely_17 : decode cX6_surely 17 = .ok (.ireturn, 1) := dk_172 (dk_at dksX6_surely_0 17 rfl rfl)
theorem dX6_surely_18 : decode cX6_surely 18 = .ok (.aload_n 0, 1) := dk_42 (dk_at dksX6_surely_0 18 rfl rfl)
theorem dX6_surely_19 : decode cX6_surely 19 = .ok (.iconst (-1), 1) := dk_2 (dk_at dksX6_surely_0 19 rfl rfl)
theorem dX6_surely_20 : decode cX6_surely 20 = .ok (.invokevirtual 422, 3) := dk_182 1 166 (dk_at dksX6_surely_0 20 rfl rfl)
theorem dX6_surely_23 : decode cX6_surely 23 = .ok (.pop, 1) := dk_87 (dk_at dksX6_surely_0 23 rfl rfl)
theorem dX6_surely_24 : decode cX6_surely 24 = .ok (.aload_n 0, 1) := dk_42 (dk_at dksX6_surely_1 0 rfl rfl)
theorem dX6_surely_25 : decode cX6_surely 25 = .ok (.aload_n 0, 1) := dk_42 (dk_at dksX6_surely_1 1 rfl rfl)
theorem dX6_surely_26 : decode cX6_surely 26 = .ok (.getfield 416, 3) := dk_180 1 160 (dk_at dksX6_surely_1 2 rfl rfl)
theorem dX6_surely_29 : decode cX6_surely 29 = .ok (.invokevirtual 59, 3) := dk_182 0 59 (dk_at dksX6_surely_1 5 rfl rfl)
theorem dX6_surely_32 : decode cX6_surely 32 = .ok (.ireturn, 1) := dk_172 (dk_at dksX6_surely_1 8 rfl rfl)
abbrev cX6_ask : ByteArray := prog_15_method_110_code
def yX6_ask : MethodName := ⟨RX6, "ask", "()I"⟩
def dkwX6_ask_1 : List UInt8 := [182, 1, 172, 182, 0, 59, 172]
abbrev dktX6_ask_1 : List UInt8 := dkwX6_ask_1 ++ []
def dkwX6_ask_0 : List UInt8 := [42, 3, 181, 0, 49, 42, 180, 1, 47, 199, 0, 11, 42, 4, 182, 0, 55, 167, 0, 11, 42, 42]
abbrev dktX6_ask_0 : List UInt8 := dkwX6_ask_0 ++ dktX6_ask_1
theorem dksX6_ask_0 : cX6_ask.data.toList.drop 0 = dktX6_ask_0 := by decide +kernel
theorem dksX6_ask_1 : cX6_ask.data.toList.drop 22 = dktX6_ask_1 := dk_seg dksX6_ask_0 22 rfl rfl
theorem dX6_ask_0 : decode cX6_ask 0 = .ok (.aload_n 0, 1) := dk_42 (dk_at dksX6_ask_0 0 rfl rfl)
theorem dX6_ask_1 : decode cX6_ask 1 = .ok (.iconst 0, 1) := dk_3 (dk_at dksX6_ask_0 1 rfl rfl)
theorem dX6_ask_2 : decode cX6_ask 2 = .ok (.putfield 49, 3) := dk_181 0 49 (dk_at dksX6_ask_0 2 rfl rfl)
theorem dX6_ask_5 : decode cX6_ask 5 = .ok (.aload_n 0, 1) := dk_42 (dk_at dksX6_ask_0 5 rfl rfl)
theorem dX6_ask_6 : decode cX6_ask 6 = .ok (.getfield 303, 3) := dk_180 1 47 (dk_at dksX6_ask_0 6 rfl rfl)
theorem dX6_ask_9 : decode cX6_ask 9 = .ok (.ifnonnull 11, 3) := dk_199 0 11 (dk_at dksX6_ask_0 9 rfl rfl)
theorem dX6_ask_12 : decode cX6_ask 12 = .ok (.aload_n 0, 1) := dk_42 (dk_at dksX6_ask_0 12 rfl rfl)
theorem dX6_ask_13 : decode cX6_ask 13 = .ok (.iconst 1, 1) := dk_4 (dk_at dksX6_ask_0 13 rfl rfl)
theorem dX6_ask_14 : decode cX6_ask 14 = .ok (.invokevirtual 55, 3) := dk_182 0 55 (dk_at dksX6_ask_0 14 rfl rfl)
theorem dX6_ask_17 : decode cX6_ask 17 = .ok (.goto 11, 3) := dk_167 0 11 (dk_at dksX6_ask_0 17 rfl rfl)
theorem dX6_ask_20 : decode cX6_ask 20 = .ok (.aload_n 0, 1) := dk_42 (dk_at dksX6_ask_0 20 rfl rfl)
theorem dX6_ask_21 : decode cX6_ask 21 = .ok (.aload_n 0, 1) := dk_42 (dk_at dksX6_ask_0 21 rfl rfl)
theorem dX6_ask_22 : decode cX6_ask 22 = .ok (.invokevirtual 428, 3) := dk_182 1 172 (dk_at dksX6_ask_1 0 rfl rfl)
theorem dX6_ask_25 : decode cX6_ask 25 = .ok (.invokevirtual 59, 3) := dk_182 0 59 (dk_at dksX6_ask_1 3 rfl rfl)
theorem dX6_ask_28 : decode cX6_ask 28 = .ok (.ireturn, 1) := dk_172 (dk_at dksX6_ask_1 6 rfl rfl)
abbrev cX6_asks : ByteArray := prog_15_method_109_code
def yX6_asks : MethodName := ⟨RX6, "asks", "()I"⟩
def dkwX6_asks_4 : List UInt8 := [28, 60, 42, 29, 181, 1, 169, 132, 2, 1, 167, 255, 170, 27, 172]
abbrev dktX6_asks_4 : List UInt8 := dkwX6_asks_4 ++ []
def dkwX6_asks_3 : List UInt8 := [180, 0, 42, 28, 46, 100, 62, 27, 16, 254, 159, 0, 14, 29, 42, 180, 1, 169, 161, 0, 6, 167, 0, 10]
abbrev dktX6_asks_3 : List UInt8 := dkwX6_asks_3 ++ dktX6_asks_4
def dkwX6_asks_2 : List UInt8 := [180, 0, 42, 28, 46, 100, 164, 0, 12, 42, 180, 0, 42, 28, 46, 167, 0, 14, 42, 180, 1, 154, 42]
abbrev dktX6_asks_2 : List UInt8 := dkwX6_asks_2 ++ dktX6_asks_3
def dkwX6_asks_1 : List UInt8 := [180, 1, 12, 162, 0, 81, 42, 180, 1, 154, 158, 0, 74, 42, 180, 0, 42, 28, 46, 42, 180, 1, 154, 42]
abbrev dktX6_asks_1 : List UInt8 := dkwX6_asks_1 ++ dktX6_asks_2
def dkwX6_asks_0 : List UInt8 := [42, 2, 182, 1, 166, 87, 16, 254, 60, 42, 16, 254, 181, 1, 169, 3, 61, 28, 42, 180, 1, 47]
abbrev dktX6_asks_0 : List UInt8 := dkwX6_asks_0 ++ dktX6_asks_1
theorem dksX6_asks_0 : cX6_asks.data.toList.drop 0 = dktX6_asks_0 := by decide +kernel
theorem dksX6_asks_1 : cX6_asks.data.toList.drop 22 = dktX6_asks_1 := dk_seg dksX6_asks_0 22 rfl rfl
theorem dksX6_asks_2 : cX6_asks.data.toList.drop 46 = dktX6_asks_2 := dk_seg dksX6_asks_1 24 rfl rfl
theorem dksX6_asks_3 : cX6_asks.data.toList.drop 69 = dktX6_asks_3 := dk_seg dksX6_asks_2 23 rfl rfl
theorem dksX6_asks_4 : cX6_asks.data.toList.drop 93 = dktX6_asks_4 := dk_seg dksX6_asks_3 24 rfl rfl
theorem dX6_asks_0 : decode cX6_asks 0 = .ok (.aload_n 0, 1) := dk_42 (dk_at dksX6_asks_0 0 rfl rfl)
theorem dX6_asks_1 : decode cX6_asks 1 = .ok (.iconst (-1), 1) := dk_2 (dk_at dksX6_asks_0 1 rfl rfl)
theorem dX6_asks_2 : decode cX6_asks 2 = .ok (.invokevirtual 422, 3) := dk_182 1 166 (dk_at dksX6_asks_0 2 rfl rfl)
theorem dX6_asks_5 : decode cX6_asks 5 = .ok (.pop, 1) := dk_87 (dk_at dksX6_asks_0 5 rfl rfl)
theorem dX6_asks_6 : decode cX6_asks 6 = .ok (.bipush (-2), 2) := dk_16 254 (dk_at dksX6_asks_0 6 rfl rfl)
theorem dX6_asks_8 : decode cX6_asks 8 = .ok (.istore_n 1, 1) := dk_60 (dk_at dksX6_asks_0 8 rfl rfl)
theorem dX6_asks_9 : decode cX6_asks 9 = .ok (.aload_n 0, 1) := dk_42 (dk_at dksX6_asks_0 9 rfl rfl)
theorem dX6_asks_10 : decode cX6_asks 10 = .ok (.bipush (-2), 2) := dk_16 254 (dk_at dksX6_asks_0 10 rfl rfl)
theorem dX6_asks_12 : decode cX6_asks 12 = .ok (.putfield 425, 3) := dk_181 1 169 (dk_at dksX6_asks_0 12 rfl rfl)
theorem dX6_asks_15 : decode cX6_asks 15 = .ok (.iconst 0, 1) := dk_3 (dk_at dksX6_asks_0 15 rfl rfl)
theorem dX6_asks_16 : decode cX6_asks 16 = .ok (.istore_n 2, 1) := dk_61 (dk_at dksX6_asks_0 16 rfl rfl)
theorem dX6_asks_17 : decode cX6_asks 17 = .ok (.iload_n 2, 1) := dk_28 (dk_at dksX6_asks_0 17 rfl rfl)
theorem dX6_asks_18 : decode cX6_asks 18 = .ok (.aload_n 0, 1) := dk_42 (dk_at dksX6_asks_0 18 rfl rfl)
theorem dX6_asks_19 : decode cX6_asks 19 = .ok (.getfield 303, 3) := dk_180 1 47 (dk_at dksX6_asks_0 19 rfl rfl)
theorem dX6_asks_22 : decode cX6_asks 22 = .ok (.getfield 268, 3) := dk_180 1 12 (dk_at dksX6_asks_1 0 rfl rfl)
theorem dX6_asks_25 : decode cX6_asks 25 = .ok (.if_icmp .ge 81, 3) := dk_162 0 81 (dk_at dksX6_asks_1 3 rfl rfl)
theorem dX6_asks_28 : decode cX6_asks 28 = .ok (.aload_n 0, 1) := dk_42 (dk_at dksX6_asks_1 6 rfl rfl)
theorem dX6_asks_29 : decode cX6_asks 29 = .ok (.getfield 410, 3) := dk_180 1 154 (dk_at dksX6_asks_1 7 rfl rfl)
theorem dX6_asks_32 : decode cX6_asks 32 = .ok (.ifCond .le 74, 3) := dk_158 0 74 (dk_at dksX6_asks_1 10 rfl rfl)
theorem dX6_asks_35 : decode cX6_asks 35 = .ok (.aload_n 0, 1) := dk_42 (dk_at dksX6_asks_1 13 rfl rfl)
theorem dX6_asks_36 : decode cX6_asks 36 = .ok (.getfield 42, 3) := dk_180 0 42 (dk_at dksX6_asks_1 14 rfl rfl)
theorem dX6_asks_39 : decode cX6_asks 39 = .ok (.iload_n 2, 1) := dk_28 (dk_at dksX6_asks_1 17 rfl rfl)
theorem dX6_asks_40 : decode cX6_asks 40 = .ok (.iaload, 1) := dk_46 (dk_at dksX6_asks_1 18 rfl rfl)
theorem dX6_asks_41 : decode cX6_asks 41 = .ok (.aload_n 0, 1) := dk_42 (dk_at dksX6_asks_1 19 rfl rfl)
theorem dX6_asks_42 : decode cX6_asks 42 = .ok (.getfield 410, 3) := dk_180 1 154 (dk_at dksX6_asks_1 20 rfl rfl)
theorem dX6_asks_45 : decode cX6_asks 45 = .ok (.aload_n 0, 1) := dk_42 (dk_at dksX6_asks_1 23 rfl rfl)
theorem dX6_asks_46 : decode cX6_asks 46 = .ok (.getfield 42, 3) := dk_180 0 42 (dk_at dksX6_asks_2 0 rfl rfl)
theorem dX6_asks_49 : decode cX6_asks 49 = .ok (.iload_n 2, 1) := dk_28 (dk_at dksX6_asks_2 3 rfl rfl)
theorem dX6_asks_50 : decode cX6_asks 50 = .ok (.iaload, 1) := dk_46 (dk_at dksX6_asks_2 4 rfl rfl)
theorem dX6_asks_51 : decode cX6_asks 51 = .ok (.isub, 1) := dk_100 (dk_at dksX6_asks_2 5 rfl rfl)
theorem dX6_asks_52 : decode cX6_asks 52 = .ok (.if_icmp .le 12, 3) := dk_164 0 12 (dk_at dksX6_asks_2 6 rfl rfl)
theorem dX6_asks_55 : decode cX6_asks 55 = .ok (.aload_n 0, 1) := dk_42 (dk_at dksX6_asks_2 9 rfl rfl)
theorem dX6_asks_56 : decode cX6_asks 56 = .ok (.getfield 42, 3) := dk_180 0 42 (dk_at dksX6_asks_2 10 rfl rfl)
theorem dX6_asks_59 : decode cX6_asks 59 = .ok (.iload_n 2, 1) := dk_28 (dk_at dksX6_asks_2 13 rfl rfl)
theorem dX6_asks_60 : decode cX6_asks 60 = .ok (.iaload, 1) := dk_46 (dk_at dksX6_asks_2 14 rfl rfl)
theorem dX6_asks_61 : decode cX6_asks 61 = .ok (.goto 14, 3) := dk_167 0 14 (dk_at dksX6_asks_2 15 rfl rfl)
theorem dX6_asks_64 : decode cX6_asks 64 = .ok (.aload_n 0, 1) := dk_42 (dk_at dksX6_asks_2 18 rfl rfl)
theorem dX6_asks_65 : decode cX6_asks 65 = .ok (.getfield 410, 3) := dk_180 1 154 (dk_at dksX6_asks_2 19 rfl rfl)
theorem dX6_asks_68 : decode cX6_asks 68 = .ok (.aload_n 0, 1) := dk_42 (dk_at dksX6_asks_2 22 rfl rfl)
theorem dX6_asks_69 : decode cX6_asks 69 = .ok (.getfield 42, 3) := dk_180 0 42 (dk_at dksX6_asks_3 0 rfl rfl)
theorem dX6_asks_72 : decode cX6_asks 72 = .ok (.iload_n 2, 1) := dk_28 (dk_at dksX6_asks_3 3 rfl rfl)
theorem dX6_asks_73 : decode cX6_asks 73 = .ok (.iaload, 1) := dk_46 (dk_at dksX6_asks_3 4 rfl rfl)
theorem dX6_asks_74 : decode cX6_asks 74 = .ok (.isub, 1) := dk_100 (dk_at dksX6_asks_3 5 rfl rfl)
theorem dX6_asks_75 : decode cX6_asks 75 = .ok (.istore_n 3, 1) := dk_62 (dk_at dksX6_asks_3 6 rfl rfl)
theorem dX6_asks_76 : decode cX6_asks 76 = .ok (.iload_n 1, 1) := dk_27 (dk_at dksX6_asks_3 7 rfl rfl)
theorem dX6_asks_77 : decode cX6_asks 77 = .ok (.bipush (-2), 2) := dk_16 254 (dk_at dksX6_asks_3 8 rfl rfl)
theorem dX6_asks_79 : decode cX6_asks 79 = .ok (.if_icmp .eq 14, 3) := dk_159 0 14 (dk_at dksX6_asks_3 10 rfl rfl)
theorem dX6_asks_82 : decode cX6_asks 82 = .ok (.iload_n 3, 1) := dk_29 (dk_at dksX6_asks_3 13 rfl rfl)
theorem dX6_asks_83 : decode cX6_asks 83 = .ok (.aload_n 0, 1) := dk_42 (dk_at dksX6_asks_3 14 rfl rfl)
theorem dX6_asks_84 : decode cX6_asks 84 = .ok (.getfield 425, 3) := dk_180 1 169 (dk_at dksX6_asks_3 15 rfl rfl)
theorem dX6_asks_87 : decode cX6_asks 87 = .ok (.if_icmp .lt 6, 3) := dk_161 0 6 (dk_at dksX6_asks_3 18 rfl rfl)
theorem dX6_asks_90 : decode cX6_asks 90 = .ok (.goto 10, 3) := dk_167 0 10 (dk_at dksX6_asks_3 21 rfl rfl)
theorem dX6_asks_93 : decode cX6_asks 93 = .ok (.iload_n 2, 1) := dk_28 (dk_at dksX6_asks_4 0 rfl rfl)
theorem dX6_asks_94 : decode cX6_asks 94 = .ok (.istore_n 1, 1) := dk_60 (dk_at dksX6_asks_4 1 rfl rfl)
theorem dX6_asks_95 : decode cX6_asks 95 = .ok (.aload_n 0, 1) := dk_42 (dk_at dksX6_asks_4 2 rfl rfl)
theorem dX6_asks_96 : decode cX6_asks 96 = .ok (.iload_n 3, 1) := dk_29 (dk_at dksX6_asks_4 3 rfl rfl)
theorem dX6_asks_97 : decode cX6_asks 97 = .ok (.putfield 425, 3) := dk_181 1 169 (dk_at dksX6_asks_4 4 rfl rfl)
theorem dX6_asks_100 : decode cX6_asks 100 = .ok (.iinc 2 1, 3) := dk_132 2 1 (dk_at dksX6_asks_4 7 rfl rfl)
theorem dX6_asks_103 : decode cX6_asks 103 = .ok (.goto (-86), 3) := dk_167 255 170 (dk_at dksX6_asks_4 10 rfl rfl)
theorem dX6_asks_106 : decode cX6_asks 106 = .ok (.iload_n 1, 1) := dk_27 (dk_at dksX6_asks_4 13 rfl rfl)
theorem dX6_asks_107 : decode cX6_asks 107 = .ok (.ireturn, 1) := dk_172 (dk_at dksX6_asks_4 14 rfl rfl)
abbrev cX6_askLeaves : ByteArray := prog_15_method_111_code
def yX6_askLeaves : MethodName := ⟨RX6, "askLeaves", "()I"⟩
def dkwX6_askLeaves_1 : List UInt8 := [42, 180, 1, 169, 182, 0, 59, 172]
abbrev dktX6_askLeaves_1 : List UInt8 := dkwX6_askLeaves_1 ++ []
def dkwX6_askLeaves_0 : List UInt8 := [42, 3, 181, 0, 49, 42, 180, 1, 47, 199, 0, 9, 42, 4, 182, 0, 55, 172, 42, 182, 1, 172, 87, 42]
abbrev dktX6_askLeaves_0 : List UInt8 := dkwX6_askLeaves_0 ++ dktX6_askLeaves_1
theorem dksX6_askLeaves_0 : cX6_askLeaves.data.toList.drop 0 = dktX6_askLeaves_0 := by decide +kernel
theorem dksX6_askLeaves_1 : cX6_askLeaves.data.toList.drop 24 = dktX6_askLeaves_1 := dk_seg dksX6_askLeaves_0 24 rfl rfl
theorem dX6_askLeaves_0 : decode cX6_askLeaves 0 = .ok (.aload_n 0, 1) := dk_42 (dk_at dksX6_askLeaves_0 0 rfl rfl)
theorem dX6_askLeaves_1 : decode cX6_askLeaves 1 = .ok (.iconst 0, 1) := dk_3 (dk_at dksX6_askLeaves_0 1 rfl rfl)
theorem dX6_askLeaves_2 : decode cX6_askLeaves 2 = .ok (.putfield 49, 3) := dk_181 0 49 (dk_at dksX6_askLeaves_0 2 rfl rfl)
theorem dX6_askLeaves_5 : decode cX6_askLeaves 5 = .ok (.aload_n 0, 1) := dk_42 (dk_at dksX6_askLeaves_0 5 rfl rfl)
theorem dX6_askLeaves_6 : decode cX6_askLeaves 6 = .ok (.getfield 303, 3) := dk_180 1 47 (dk_at dksX6_askLeaves_0 6 rfl rfl)
theorem dX6_askLeaves_9 : decode cX6_askLeaves 9 = .ok (.ifnonnull 9, 3) := dk_199 0 9 (dk_at dksX6_askLeaves_0 9 rfl rfl)
theorem dX6_askLeaves_12 : decode cX6_askLeaves 12 = .ok (.aload_n 0, 1) := dk_42 (dk_at dksX6_askLeaves_0 12 rfl rfl)
theorem dX6_askLeaves_13 : decode cX6_askLeaves 13 = .ok (.iconst 1, 1) := dk_4 (dk_at dksX6_askLeaves_0 13 rfl rfl)
theorem dX6_askLeaves_14 : decode cX6_askLeaves 14 = .ok (.invokevirtual 55, 3) := dk_182 0 55 (dk_at dksX6_askLeaves_0 14 rfl rfl)
theorem dX6_askLeaves_17 : decode cX6_askLeaves 17 = .ok (.ireturn, 1) := dk_172 (dk_at dksX6_askLeaves_0 17 rfl rfl)
theorem dX6_askLeaves_18 : decode cX6_askLeaves 18 = .ok (.aload_n 0, 1) := dk_42 (dk_at dksX6_askLeaves_0 18 rfl rfl)
theorem dX6_askLeaves_19 : decode cX6_askLeaves 19 = .ok (.invokevirtual 428, 3) := dk_182 1 172 (dk_at dksX6_askLeaves_0 19 rfl rfl)
theorem dX6_askLeaves_22 : decode cX6_askLeaves 22 = .ok (.pop, 1) := dk_87 (dk_at dksX6_askLeaves_0 22 rfl rfl)
theorem dX6_askLeaves_23 : decode cX6_askLeaves 23 = .ok (.aload_n 0, 1) := dk_42 (dk_at dksX6_askLeaves_0 23 rfl rfl)
theorem dX6_askLeaves_24 : decode cX6_askLeaves 24 = .ok (.aload_n 0, 1) := dk_42 (dk_at dksX6_askLeaves_1 0 rfl rfl)
theorem dX6_askLeaves_25 : decode cX6_askLeaves 25 = .ok (.getfield 425, 3) := dk_180 1 169 (dk_at dksX6_askLeaves_1 1 rfl rfl)
theorem dX6_askLeaves_28 : decode cX6_askLeaves 28 = .ok (.invokevirtual 59, 3) := dk_182 0 59 (dk_at dksX6_askLeaves_1 4 rfl rfl)
theorem dX6_askLeaves_31 : decode cX6_askLeaves 31 = .ok (.ireturn, 1) := dk_172 (dk_at dksX6_askLeaves_1 7 rfl rfl)
abbrev cX6_judge : ByteArray := prog_15_method_112_code
def yX6_judge : MethodName := ⟨RX6, "judge", "()I"⟩
def dkwX6_judge_1 : List UInt8 := [182, 1, 163, 182, 0, 59, 172]
abbrev dktX6_judge_1 : List UInt8 := dkwX6_judge_1 ++ []
def dkwX6_judge_0 : List UInt8 := [42, 3, 181, 0, 49, 42, 180, 1, 47, 199, 0, 11, 42, 4, 182, 0, 55, 167, 0, 12, 42, 42, 3]
abbrev dktX6_judge_0 : List UInt8 := dkwX6_judge_0 ++ dktX6_judge_1
theorem dksX6_judge_0 : cX6_judge.data.toList.drop 0 = dktX6_judge_0 := by decide +kernel
theorem dksX6_judge_1 : cX6_judge.data.toList.drop 23 = dktX6_judge_1 := dk_seg dksX6_judge_0 23 rfl rfl
theorem dX6_judge_0 : decode cX6_judge 0 = .ok (.aload_n 0, 1) := dk_42 (dk_at dksX6_judge_0 0 rfl rfl)
theorem dX6_judge_1 : decode cX6_judge 1 = .ok (.iconst 0, 1) := dk_3 (dk_at dksX6_judge_0 1 rfl rfl)
theorem dX6_judge_2 : decode cX6_judge 2 = .ok (.putfield 49, 3) := dk_181 0 49 (dk_at dksX6_judge_0 2 rfl rfl)
theorem dX6_judge_5 : decode cX6_judge 5 = .ok (.aload_n 0, 1) := dk_42 (dk_at dksX6_judge_0 5 rfl rfl)
theorem dX6_judge_6 : decode cX6_judge 6 = .ok (.getfield 303, 3) := dk_180 1 47 (dk_at dksX6_judge_0 6 rfl rfl)
theorem dX6_judge_9 : decode cX6_judge 9 = .ok (.ifnonnull 11, 3) := dk_199 0 11 (dk_at dksX6_judge_0 9 rfl rfl)
theorem dX6_judge_12 : decode cX6_judge 12 = .ok (.aload_n 0, 1) := dk_42 (dk_at dksX6_judge_0 12 rfl rfl)
theorem dX6_judge_13 : decode cX6_judge 13 = .ok (.iconst 1, 1) := dk_4 (dk_at dksX6_judge_0 13 rfl rfl)
theorem dX6_judge_14 : decode cX6_judge 14 = .ok (.invokevirtual 55, 3) := dk_182 0 55 (dk_at dksX6_judge_0 14 rfl rfl)
theorem dX6_judge_17 : decode cX6_judge 17 = .ok (.goto 12, 3) := dk_167 0 12 (dk_at dksX6_judge_0 17 rfl rfl)
theorem dX6_judge_20 : decode cX6_judge 20 = .ok (.aload_n 0, 1) := dk_42 (dk_at dksX6_judge_0 20 rfl rfl)
theorem dX6_judge_21 : decode cX6_judge 21 = .ok (.aload_n 0, 1) := dk_42 (dk_at dksX6_judge_0 21 rfl rfl)
theorem dX6_judge_22 : decode cX6_judge 22 = .ok (.iconst 0, 1) := dk_3 (dk_at dksX6_judge_0 22 rfl rfl)
theorem dX6_judge_23 : decode cX6_judge 23 = .ok (.invokevirtual 419, 3) := dk_182 1 163 (dk_at dksX6_judge_1 0 rfl rfl)
theorem dX6_judge_26 : decode cX6_judge 26 = .ok (.invokevirtual 59, 3) := dk_182 0 59 (dk_at dksX6_judge_1 3 rfl rfl)
theorem dX6_judge_29 : decode cX6_judge 29 = .ok (.ireturn, 1) := dk_172 (dk_at dksX6_judge_1 6 rfl rfl)
abbrev cX6_chat : ByteArray := prog_15_method_115_code
def yX6_chat : MethodName := ⟨RX6, "chat", "(IZZZ)I"⟩
def dkwX6_chat_2 : List UInt8 := [182, 0, 59, 172]
abbrev dktX6_chat_2 : List UInt8 := dkwX6_chat_2 ++ []
def dkwX6_chat_1 : List UInt8 := [167, 0, 27, 42, 21, 4, 153, 0, 12, 27, 29, 28, 184, 1, 181, 167, 0, 9, 27, 28, 29, 184, 1, 181]
abbrev dktX6_chat_1 : List UInt8 := dkwX6_chat_1 ++ dktX6_chat_2
def dkwX6_chat_0 : List UInt8 := [42, 3, 181, 0, 49, 42, 27, 182, 1, 175, 54, 5, 21, 5, 158, 0, 12, 42, 21, 5, 182, 1, 178]
abbrev dktX6_chat_0 : List UInt8 := dkwX6_chat_0 ++ dktX6_chat_1
theorem dksX6_chat_0 : cX6_chat.data.toList.drop 0 = dktX6_chat_0 := by decide +kernel
theorem dksX6_chat_1 : cX6_chat.data.toList.drop 23 = dktX6_chat_1 := dk_seg dksX6_chat_0 23 rfl rfl
theorem dksX6_chat_2 : cX6_chat.data.toList.drop 47 = dktX6_chat_2 := dk_seg dksX6_chat_1 24 rfl rfl
theorem dX6_chat_0 : decode cX6_chat 0 = .ok (.aload_n 0, 1) := dk_42 (dk_at dksX6_chat_0 0 rfl rfl)
theorem dX6_chat_1 : decode cX6_chat 1 = .ok (.iconst 0, 1) := dk_3 (dk_at dksX6_chat_0 1 rfl rfl)
theorem dX6_chat_2 : decode cX6_chat 2 = .ok (.putfield 49, 3) := dk_181 0 49 (dk_at dksX6_chat_0 2 rfl rfl)
theorem dX6_chat_5 : decode cX6_chat 5 = .ok (.aload_n 0, 1) := dk_42 (dk_at dksX6_chat_0 5 rfl rfl)
theorem dX6_chat_6 : decode cX6_chat 6 = .ok (.iload_n 1, 1) := dk_27 (dk_at dksX6_chat_0 6 rfl rfl)
theorem dX6_chat_7 : decode cX6_chat 7 = .ok (.invokevirtual 431, 3) := dk_182 1 175 (dk_at dksX6_chat_0 7 rfl rfl)
theorem dX6_chat_10 : decode cX6_chat 10 = .ok (.istore 5, 2) := dk_54 5 (dk_at dksX6_chat_0 10 rfl rfl)
theorem dX6_chat_12 : decode cX6_chat 12 = .ok (.iload 5, 2) := dk_21 5 (dk_at dksX6_chat_0 12 rfl rfl)
theorem dX6_chat_14 : decode cX6_chat 14 = .ok (.ifCond .le 12, 3) := dk_158 0 12 (dk_at dksX6_chat_0 14 rfl rfl)
theorem dX6_chat_17 : decode cX6_chat 17 = .ok (.aload_n 0, 1) := dk_42 (dk_at dksX6_chat_0 17 rfl rfl)
theorem dX6_chat_18 : decode cX6_chat 18 = .ok (.iload 5, 2) := dk_21 5 (dk_at dksX6_chat_0 18 rfl rfl)
theorem dX6_chat_20 : decode cX6_chat 20 = .ok (.invokevirtual 434, 3) := dk_182 1 178 (dk_at dksX6_chat_0 20 rfl rfl)
theorem dX6_chat_23 : decode cX6_chat 23 = .ok (.goto 27, 3) := dk_167 0 27 (dk_at dksX6_chat_1 0 rfl rfl)
theorem dX6_chat_26 : decode cX6_chat 26 = .ok (.aload_n 0, 1) := dk_42 (dk_at dksX6_chat_1 3 rfl rfl)
theorem dX6_chat_27 : decode cX6_chat 27 = .ok (.iload 4, 2) := dk_21 4 (dk_at dksX6_chat_1 4 rfl rfl)
theorem dX6_chat_29 : decode cX6_chat 29 = .ok (.ifCond .eq 12, 3) := dk_153 0 12 (dk_at dksX6_chat_1 6 rfl rfl)
theorem dX6_chat_32 : decode cX6_chat 32 = .ok (.iload_n 1, 1) := dk_27 (dk_at dksX6_chat_1 9 rfl rfl)
theorem dX6_chat_33 : decode cX6_chat 33 = .ok (.iload_n 3, 1) := dk_29 (dk_at dksX6_chat_1 10 rfl rfl)
theorem dX6_chat_34 : decode cX6_chat 34 = .ok (.iload_n 2, 1) := dk_28 (dk_at dksX6_chat_1 11 rfl rfl)
theorem dX6_chat_35 : decode cX6_chat 35 = .ok (.invokestatic 437, 3) := dk_184 1 181 (dk_at dksX6_chat_1 12 rfl rfl)
theorem dX6_chat_38 : decode cX6_chat 38 = .ok (.goto 9, 3) := dk_167 0 9 (dk_at dksX6_chat_1 15 rfl rfl)
theorem dX6_chat_41 : decode cX6_chat 41 = .ok (.iload_n 1, 1) := dk_27 (dk_at dksX6_chat_1 18 rfl rfl)
theorem dX6_chat_42 : decode cX6_chat 42 = .ok (.iload_n 2, 1) := dk_28 (dk_at dksX6_chat_1 19 rfl rfl)
theorem dX6_chat_43 : decode cX6_chat 43 = .ok (.iload_n 3, 1) := dk_29 (dk_at dksX6_chat_1 20 rfl rfl)
theorem dX6_chat_44 : decode cX6_chat 44 = .ok (.invokestatic 437, 3) := dk_184 1 181 (dk_at dksX6_chat_1 21 rfl rfl)
theorem dX6_chat_47 : decode cX6_chat 47 = .ok (.invokevirtual 59, 3) := dk_182 0 59 (dk_at dksX6_chat_2 0 rfl rfl)
theorem dX6_chat_50 : decode cX6_chat 50 = .ok (.ireturn, 1) := dk_172 (dk_at dksX6_chat_2 3 rfl rfl)
abbrev cX6_refusesSoot : ByteArray := prog_15_method_114_code
def yX6_refusesSoot : MethodName := ⟨RX6, "refusesSoot", "(I)I"⟩
def dkwX6_refusesSoot_1 : List UInt8 := [167, 0, 4, 5, 172]
abbrev dktX6_refusesSoot_1 : List UInt8 := dkwX6_refusesSoot_1 ++ []
def dkwX6_refusesSoot_0 : List UInt8 := [42, 180, 1, 47, 199, 0, 7, 4, 167, 0, 18, 27, 3, 16, 9, 184, 0, 128, 153, 0, 7, 3]
abbrev dktX6_refusesSoot_0 : List UInt8 := dkwX6_refusesSoot_0 ++ dktX6_refusesSoot_1
theorem dksX6_refusesSoot_0 : cX6_refusesSoot.data.toList.drop 0 = dktX6_refusesSoot_0 := by decide +kernel
theorem dksX6_refusesSoot_1 : cX6_refusesSoot.data.toList.drop 22 = dktX6_refusesSoot_1 := dk_seg dksX6_refusesSoot_0 22 rfl rfl
theorem dX6_refusesSoot_0 : decode cX6_refusesSoot 0 = .ok (.aload_n 0, 1) := dk_42 (dk_at dksX6_refusesSoot_0 0 rfl rfl)
theorem dX6_refusesSoot_1 : decode cX6_refusesSoot 1 = .ok (.getfield 303, 3) := dk_180 1 47 (dk_at dksX6_refusesSoot_0 1 rfl rfl)
theorem dX6_refusesSoot_4 : decode cX6_refusesSoot 4 = .ok (.ifnonnull 7, 3) := dk_199 0 7 (dk_at dksX6_refusesSoot_0 4 rfl rfl)
theorem dX6_refusesSoot_7 : decode cX6_refusesSoot 7 = .ok (.iconst 1, 1) := dk_4 (dk_at dksX6_refusesSoot_0 7 rfl rfl)
theorem dX6_refusesSoot_8 : decode cX6_refusesSoot 8 = .ok (.goto 18, 3) := dk_167 0 18 (dk_at dksX6_refusesSoot_0 8 rfl rfl)
theorem dX6_refusesSoot_11 : decode cX6_refusesSoot 11 = .ok (.iload_n 1, 1) := dk_27 (dk_at dksX6_refusesSoot_0 11 rfl rfl)
theorem dX6_refusesSoot_12 : decode cX6_refusesSoot 12 = .ok (.iconst 0, 1) := dk_3 (dk_at dksX6_refusesSoot_0 12 rfl rfl)
theorem dX6_refusesSoot_13 : decode cX6_refusesSoot 13 = .ok (.bipush 9, 2) := dk_16 9 (dk_at dksX6_refusesSoot_0 13 rfl rfl)
theorem dX6_refusesSoot_15 : decode cX6_refusesSoot 15 = .ok (.invokestatic 128, 3) := dk_184 0 128 (dk_at dksX6_refusesSoot_0 15 rfl rfl)
theorem dX6_refusesSoot_18 : decode cX6_refusesSoot 18 = .ok (.ifCond .eq 7, 3) := dk_153 0 7 (dk_at dksX6_refusesSoot_0 18 rfl rfl)
theorem dX6_refusesSoot_21 : decode cX6_refusesSoot 21 = .ok (.iconst 0, 1) := dk_3 (dk_at dksX6_refusesSoot_0 21 rfl rfl)
theorem dX6_refusesSoot_22 : decode cX6_refusesSoot 22 = .ok (.goto 4, 3) := dk_167 0 4 (dk_at dksX6_refusesSoot_1 0 rfl rfl)
theorem dX6_refusesSoot_25 : decode cX6_refusesSoot 25 = .ok (.iconst 2, 1) := dk_5 (dk_at dksX6_refusesSoot_1 3 rfl rfl)
theorem dX6_refusesSoot_26 : decode cX6_refusesSoot 26 = .ok (.ireturn, 1) := dk_172 (dk_at dksX6_refusesSoot_1 4 rfl rfl)
abbrev cX6_lost : ByteArray := prog_15_method_4_code
def yX6_lost : MethodName := ⟨RX6, "lost", "(I)I"⟩
def dkwX6_lost_0 : List UInt8 := [42, 27, 182, 0, 55, 87, 16, 156, 172]
abbrev dktX6_lost_0 : List UInt8 := dkwX6_lost_0 ++ []
theorem dksX6_lost_0 : cX6_lost.data.toList.drop 0 = dktX6_lost_0 := by decide +kernel
theorem dX6_lost_0 : decode cX6_lost 0 = .ok (.aload_n 0, 1) := dk_42 (dk_at dksX6_lost_0 0 rfl rfl)
theorem dX6_lost_1 : decode cX6_lost 1 = .ok (.iload_n 1, 1) := dk_27 (dk_at dksX6_lost_0 1 rfl rfl)
theorem dX6_lost_2 : decode cX6_lost 2 = .ok (.invokevirtual 55, 3) := dk_182 0 55 (dk_at dksX6_lost_0 2 rfl rfl)
theorem dX6_lost_5 : decode cX6_lost 5 = .ok (.pop, 1) := dk_87 (dk_at dksX6_lost_0 5 rfl rfl)
theorem dX6_lost_6 : decode cX6_lost 6 = .ok (.bipush (-100), 2) := dk_16 156 (dk_at dksX6_lost_0 6 rfl rfl)
theorem dX6_lost_8 : decode cX6_lost 8 = .ok (.ireturn, 1) := dk_172 (dk_at dksX6_lost_0 8 rfl rfl)
abbrev cX6_chatted : ByteArray := prog_15_method_113_code
def yX6_chatted : MethodName := ⟨RX6, "chatted", "(IZZ)I"⟩
def dkwX6_chatted_1 : List UInt8 := [167, 0, 4, 4, 172]
abbrev dktX6_chatted_1 : List UInt8 := dkwX6_chatted_1 ++ []
def dkwX6_chatted_0 : List UInt8 := [27, 153, 0, 15, 28, 153, 0, 7, 3, 167, 0, 18, 6, 167, 0, 14, 28, 153, 0, 9, 5, 26, 100]
abbrev dktX6_chatted_0 : List UInt8 := dkwX6_chatted_0 ++ dktX6_chatted_1
theorem dksX6_chatted_0 : cX6_chatted.data.toList.drop 0 = dktX6_chatted_0 := by decide +kernel
theorem dksX6_chatted_1 : cX6_chatted.data.toList.drop 23 = dktX6_chatted_1 := dk_seg dksX6_chatted_0 23 rfl rfl
theorem dX6_chatted_0 : decode cX6_chatted 0 = .ok (.iload_n 1, 1) := dk_27 (dk_at dksX6_chatted_0 0 rfl rfl)
theorem dX6_chatted_1 : decode cX6_chatted 1 = .ok (.ifCond .eq 15, 3) := dk_153 0 15 (dk_at dksX6_chatted_0 1 rfl rfl)
theorem dX6_chatted_4 : decode cX6_chatted 4 = .ok (.iload_n 2, 1) := dk_28 (dk_at dksX6_chatted_0 4 rfl rfl)
theorem dX6_chatted_5 : decode cX6_chatted 5 = .ok (.ifCond .eq 7, 3) := dk_153 0 7 (dk_at dksX6_chatted_0 5 rfl rfl)
theorem dX6_chatted_8 : decode cX6_chatted 8 = .ok (.iconst 0, 1) := dk_3 (dk_at dksX6_chatted_0 8 rfl rfl)
theorem dX6_chatted_9 : decode cX6_chatted 9 = .ok (.goto 18, 3) := dk_167 0 18 (dk_at dksX6_chatted_0 9 rfl rfl)
theorem dX6_chatted_12 : decode cX6_chatted 12 = .ok (.iconst 3, 1) := dk_6 (dk_at dksX6_chatted_0 12 rfl rfl)
theorem dX6_chatted_13 : decode cX6_chatted 13 = .ok (.goto 14, 3) := dk_167 0 14 (dk_at dksX6_chatted_0 13 rfl rfl)
theorem dX6_chatted_16 : decode cX6_chatted 16 = .ok (.iload_n 2, 1) := dk_28 (dk_at dksX6_chatted_0 16 rfl rfl)
theorem dX6_chatted_17 : decode cX6_chatted 17 = .ok (.ifCond .eq 9, 3) := dk_153 0 9 (dk_at dksX6_chatted_0 17 rfl rfl)
theorem dX6_chatted_20 : decode cX6_chatted 20 = .ok (.iconst 2, 1) := dk_5 (dk_at dksX6_chatted_0 20 rfl rfl)
theorem dX6_chatted_21 : decode cX6_chatted 21 = .ok (.iload_n 0, 1) := dk_26 (dk_at dksX6_chatted_0 21 rfl rfl)
theorem dX6_chatted_22 : decode cX6_chatted 22 = .ok (.isub, 1) := dk_100 (dk_at dksX6_chatted_0 22 rfl rfl)
theorem dX6_chatted_23 : decode cX6_chatted 23 = .ok (.goto 4, 3) := dk_167 0 4 (dk_at dksX6_chatted_1 0 rfl rfl)
theorem dX6_chatted_26 : decode cX6_chatted 26 = .ok (.iconst 1, 1) := dk_4 (dk_at dksX6_chatted_1 3 rfl rfl)
theorem dX6_chatted_27 : decode cX6_chatted 27 = .ok (.ireturn, 1) := dk_172 (dk_at dksX6_chatted_1 4 rfl rfl)
abbrev cX6_rests : ByteArray := prog_15_method_117_code
def yX6_rests : MethodName := ⟨RX6, "rests", "(I)I"⟩
def dkwX6_rests_2 : List UInt8 := [62, 132, 4, 1, 167, 255, 230, 42, 29, 182, 0, 59, 172]
abbrev dktX6_rests_2 : List UInt8 := dkwX6_rests_2 ++ []
def dkwX6_rests_1 : List UInt8 := [54, 4, 21, 4, 7, 162, 0, 26, 29, 27, 21, 4, 184, 1, 185, 153, 0, 7, 4, 167, 0, 4, 3, 96]
abbrev dktX6_rests_1 : List UInt8 := dkwX6_rests_1 ++ dktX6_rests_2
def dkwX6_rests_0 : List UInt8 := [42, 3, 181, 0, 49, 42, 27, 182, 1, 175, 61, 28, 158, 0, 9, 42, 28, 182, 0, 55, 172, 3, 62, 3]
abbrev dktX6_rests_0 : List UInt8 := dkwX6_rests_0 ++ dktX6_rests_1
theorem dksX6_rests_0 : cX6_rests.data.toList.drop 0 = dktX6_rests_0 := by decide +kernel
theorem dksX6_rests_1 : cX6_rests.data.toList.drop 24 = dktX6_rests_1 := dk_seg dksX6_rests_0 24 rfl rfl
theorem dksX6_rests_2 : cX6_rests.data.toList.drop 48 = dktX6_rests_2 := dk_seg dksX6_rests_1 24 rfl rfl
theorem dX6_rests_0 : decode cX6_rests 0 = .ok (.aload_n 0, 1) := dk_42 (dk_at dksX6_rests_0 0 rfl rfl)
theorem dX6_rests_1 : decode cX6_rests 1 = .ok (.iconst 0, 1) := dk_3 (dk_at dksX6_rests_0 1 rfl rfl)
theorem dX6_rests_2 : decode cX6_rests 2 = .ok (.putfield 49, 3) := dk_181 0 49 (dk_at dksX6_rests_0 2 rfl rfl)
theorem dX6_rests_5 : decode cX6_rests 5 = .ok (.aload_n 0, 1) := dk_42 (dk_at dksX6_rests_0 5 rfl rfl)
theorem dX6_rests_6 : decode cX6_rests 6 = .ok (.iload_n 1, 1) := dk_27 (dk_at dksX6_rests_0 6 rfl rfl)
theorem dX6_rests_7 : decode cX6_rests 7 = .ok (.invokevirtual 431, 3) := dk_182 1 175 (dk_at dksX6_rests_0 7 rfl rfl)
theorem dX6_rests_10 : decode cX6_rests 10 = .ok (.istore_n 2, 1) := dk_61 (dk_at dksX6_rests_0 10 rfl rfl)
theorem dX6_rests_11 : decode cX6_rests 11 = .ok (.iload_n 2, 1) := dk_28 (dk_at dksX6_rests_0 11 rfl rfl)
theorem dX6_rests_12 : decode cX6_rests 12 = .ok (.ifCond .le 9, 3) := dk_158 0 9 (dk_at dksX6_rests_0 12 rfl rfl)
theorem dX6_rests_15 : decode cX6_rests 15 = .ok (.aload_n 0, 1) := dk_42 (dk_at dksX6_rests_0 15 rfl rfl)
theorem dX6_rests_16 : decode cX6_rests 16 = .ok (.iload_n 2, 1) := dk_28 (dk_at dksX6_rests_0 16 rfl rfl)
theorem dX6_rests_17 : decode cX6_rests 17 = .ok (.invokevirtual 55, 3) := dk_182 0 55 (dk_at dksX6_rests_0 17 rfl rfl)
theorem dX6_rests_20 : decode cX6_rests 20 = .ok (.ireturn, 1) := dk_172 (dk_at dksX6_rests_0 20 rfl rfl)
theorem dX6_rests_21 : decode cX6_rests 21 = .ok (.iconst 0, 1) := dk_3 (dk_at dksX6_rests_0 21 rfl rfl)
theorem dX6_rests_22 : decode cX6_rests 22 = .ok (.istore_n 3, 1) := dk_62 (dk_at dksX6_rests_0 22 rfl rfl)
theorem dX6_rests_23 : decode cX6_rests 23 = .ok (.iconst 0, 1) := dk_3 (dk_at dksX6_rests_0 23 rfl rfl)
theorem dX6_rests_24 : decode cX6_rests 24 = .ok (.istore 4, 2) := dk_54 4 (dk_at dksX6_rests_1 0 rfl rfl)
theorem dX6_rests_26 : decode cX6_rests 26 = .ok (.iload 4, 2) := dk_21 4 (dk_at dksX6_rests_1 2 rfl rfl)
theorem dX6_rests_28 : decode cX6_rests 28 = .ok (.iconst 4, 1) := dk_7 (dk_at dksX6_rests_1 4 rfl rfl)
theorem dX6_rests_29 : decode cX6_rests 29 = .ok (.if_icmp .ge 26, 3) := dk_162 0 26 (dk_at dksX6_rests_1 5 rfl rfl)
theorem dX6_rests_32 : decode cX6_rests 32 = .ok (.iload_n 3, 1) := dk_29 (dk_at dksX6_rests_1 8 rfl rfl)
theorem dX6_rests_33 : decode cX6_rests 33 = .ok (.iload_n 1, 1) := dk_27 (dk_at dksX6_rests_1 9 rfl rfl)
theorem dX6_rests_34 : decode cX6_rests 34 = .ok (.iload 4, 2) := dk_21 4 (dk_at dksX6_rests_1 10 rfl rfl)
theorem dX6_rests_36 : decode cX6_rests 36 = .ok (.invokestatic 441, 3) := dk_184 1 185 (dk_at dksX6_rests_1 12 rfl rfl)
theorem dX6_rests_39 : decode cX6_rests 39 = .ok (.ifCond .eq 7, 3) := dk_153 0 7 (dk_at dksX6_rests_1 15 rfl rfl)
theorem dX6_rests_42 : decode cX6_rests 42 = .ok (.iconst 1, 1) := dk_4 (dk_at dksX6_rests_1 18 rfl rfl)
theorem dX6_rests_43 : decode cX6_rests 43 = .ok (.goto 4, 3) := dk_167 0 4 (dk_at dksX6_rests_1 19 rfl rfl)
theorem dX6_rests_46 : decode cX6_rests 46 = .ok (.iconst 0, 1) := dk_3 (dk_at dksX6_rests_1 22 rfl rfl)
theorem dX6_rests_47 : decode cX6_rests 47 = .ok (.iadd, 1) := dk_96 (dk_at dksX6_rests_1 23 rfl rfl)
theorem dX6_rests_48 : decode cX6_rests 48 = .ok (.istore_n 3, 1) := dk_62 (dk_at dksX6_rests_2 0 rfl rfl)
theorem dX6_rests_49 : decode cX6_rests 49 = .ok (.iinc 4 1, 3) := dk_132 4 1 (dk_at dksX6_rests_2 1 rfl rfl)
theorem dX6_rests_52 : decode cX6_rests 52 = .ok (.goto (-26), 3) := dk_167 255 230 (dk_at dksX6_rests_2 4 rfl rfl)
theorem dX6_rests_55 : decode cX6_rests 55 = .ok (.aload_n 0, 1) := dk_42 (dk_at dksX6_rests_2 7 rfl rfl)
theorem dX6_rests_56 : decode cX6_rests 56 = .ok (.iload_n 3, 1) := dk_29 (dk_at dksX6_rests_2 8 rfl rfl)
theorem dX6_rests_57 : decode cX6_rests 57 = .ok (.invokevirtual 59, 3) := dk_182 0 59 (dk_at dksX6_rests_2 9 rfl rfl)
theorem dX6_rests_60 : decode cX6_rests 60 = .ok (.ireturn, 1) := dk_172 (dk_at dksX6_rests_2 12 rfl rfl)
abbrev cX6_isRest : ByteArray := prog_15_method_116_code
def yX6_isRest : MethodName := ⟨RX6, "isRest", "(II)Z"⟩
def dkwX6_isRest_3 : List UInt8 := [167, 0, 4, 3, 172]
abbrev dktX6_isRest_3 : List UInt8 := dkwX6_isRest_3 ++ []
def dkwX6_isRest_2 : List UInt8 := [29, 154, 0, 7, 4, 167, 0, 4, 3, 28, 184, 1, 181, 26, 29, 28, 184, 1, 181, 163, 0, 7, 4]
abbrev dktX6_isRest_2 : List UInt8 := dkwX6_isRest_2 ++ dktX6_isRest_3
def dkwX6_isRest_1 : List UInt8 := [26, 28, 154, 0, 7, 4, 167, 0, 4, 3, 29, 184, 1, 181, 26, 28, 29, 184, 1, 181, 163, 0, 30, 26]
abbrev dktX6_isRest_1 : List UInt8 := dkwX6_isRest_1 ++ dktX6_isRest_2
def dkwX6_isRest_0 : List UInt8 := [27, 4, 164, 0, 7, 4, 167, 0, 4, 3, 61, 27, 5, 112, 4, 160, 0, 7, 4, 167, 0, 4, 3, 62]
abbrev dktX6_isRest_0 : List UInt8 := dkwX6_isRest_0 ++ dktX6_isRest_1
theorem dksX6_isRest_0 : cX6_isRest.data.toList.drop 0 = dktX6_isRest_0 := by decide +kernel
theorem dksX6_isRest_1 : cX6_isRest.data.toList.drop 24 = dktX6_isRest_1 := dk_seg dksX6_isRest_0 24 rfl rfl
theorem dksX6_isRest_2 : cX6_isRest.data.toList.drop 48 = dktX6_isRest_2 := dk_seg dksX6_isRest_1 24 rfl rfl
theorem dksX6_isRest_3 : cX6_isRest.data.toList.drop 71 = dktX6_isRest_3 := dk_seg dksX6_isRest_2 23 rfl rfl
theorem dX6_isRest_0 : decode cX6_isRest 0 = .ok (.iload_n 1, 1) := dk_27 (dk_at dksX6_isRest_0 0 rfl rfl)
theorem dX6_isRest_1 : decode cX6_isRest 1 = .ok (.iconst 1, 1) := dk_4 (dk_at dksX6_isRest_0 1 rfl rfl)
theorem dX6_isRest_2 : decode cX6_isRest 2 = .ok (.if_icmp .le 7, 3) := dk_164 0 7 (dk_at dksX6_isRest_0 2 rfl rfl)
theorem dX6_isRest_5 : decode cX6_isRest 5 = .ok (.iconst 1, 1) := dk_4 (dk_at dksX6_isRest_0 5 rfl rfl)
theorem dX6_isRest_6 : decode cX6_isRest 6 = .ok (.goto 4, 3) := dk_167 0 4 (dk_at dksX6_isRest_0 6 rfl rfl)
theorem dX6_isRest_9 : decode cX6_isRest 9 = .ok (.iconst 0, 1) := dk_3 (dk_at dksX6_isRest_0 9 rfl rfl)
theorem dX6_isRest_10 : decode cX6_isRest 10 = .ok (.istore_n 2, 1) := dk_61 (dk_at dksX6_isRest_0 10 rfl rfl)
theorem dX6_isRest_11 : decode cX6_isRest 11 = .ok (.iload_n 1, 1) := dk_27 (dk_at dksX6_isRest_0 11 rfl rfl)
theorem dX6_isRest_12 : decode cX6_isRest 12 = .ok (.iconst 2, 1) := dk_5 (dk_at dksX6_isRest_0 12 rfl rfl)
theorem dX6_isRest_13 : decode cX6_isRest 13 = .ok (.irem, 1) := dk_112 (dk_at dksX6_isRest_0 13 rfl rfl)
theorem dX6_isRest_14 : decode cX6_isRest 14 = .ok (.iconst 1, 1) := dk_4 (dk_at dksX6_isRest_0 14 rfl rfl)
theorem dX6_isRest_15 : decode cX6_isRest 15 = .ok (.if_icmp .ne 7, 3) := dk_160 0 7 (dk_at dksX6_isRest_0 15 rfl rfl)
theorem dX6_isRest_18 : decode cX6_isRest 18 = .ok (.iconst 1, 1) := dk_4 (dk_at dksX6_isRest_0 18 rfl rfl)
theorem dX6_isRest_19 : decode cX6_isRest 19 = .ok (.goto 4, 3) := dk_167 0 4 (dk_at dksX6_isRest_0 19 rfl rfl)
theorem dX6_isRest_22 : decode cX6_isRest 22 = .ok (.iconst 0, 1) := dk_3 (dk_at dksX6_isRest_0 22 rfl rfl)
theorem dX6_isRest_23 : decode cX6_isRest 23 = .ok (.istore_n 3, 1) := dk_62 (dk_at dksX6_isRest_0 23 rfl rfl)
theorem dX6_isRest_24 : decode cX6_isRest 24 = .ok (.iload_n 0, 1) := dk_26 (dk_at dksX6_isRest_1 0 rfl rfl)
theorem dX6_isRest_25 : decode cX6_isRest 25 = .ok (.iload_n 2, 1) := dk_28 (dk_at dksX6_isRest_1 1 rfl rfl)
theorem dX6_isRest_26 : decode cX6_isRest 26 = .ok (.ifCond .ne 7, 3) := dk_154 0 7 (dk_at dksX6_isRest_1 2 rfl rfl)
theorem dX6_isRest_29 : decode cX6_isRest 29 = .ok (.iconst 1, 1) := dk_4 (dk_at dksX6_isRest_1 5 rfl rfl)
theorem dX6_isRest_30 : decode cX6_isRest 30 = .ok (.goto 4, 3) := dk_167 0 4 (dk_at dksX6_isRest_1 6 rfl rfl)
theorem dX6_isRest_33 : decode cX6_isRest 33 = .ok (.iconst 0, 1) := dk_3 (dk_at dksX6_isRest_1 9 rfl rfl)
theorem dX6_isRest_34 : decode cX6_isRest 34 = .ok (.iload_n 3, 1) := dk_29 (dk_at dksX6_isRest_1 10 rfl rfl)
theorem dX6_isRest_35 : decode cX6_isRest 35 = .ok (.invokestatic 437, 3) := dk_184 1 181 (dk_at dksX6_isRest_1 11 rfl rfl)
theorem dX6_isRest_38 : decode cX6_isRest 38 = .ok (.iload_n 0, 1) := dk_26 (dk_at dksX6_isRest_1 14 rfl rfl)
theorem dX6_isRest_39 : decode cX6_isRest 39 = .ok (.iload_n 2, 1) := dk_28 (dk_at dksX6_isRest_1 15 rfl rfl)
theorem dX6_isRest_40 : decode cX6_isRest 40 = .ok (.iload_n 3, 1) := dk_29 (dk_at dksX6_isRest_1 16 rfl rfl)
theorem dX6_isRest_41 : decode cX6_isRest 41 = .ok (.invokestatic 437, 3) := dk_184 1 181 (dk_at dksX6_isRest_1 17 rfl rfl)
theorem dX6_isRest_44 : decode cX6_isRest 44 = .ok (.if_icmp .gt 30, 3) := dk_163 0 30 (dk_at dksX6_isRest_1 20 rfl rfl)
theorem dX6_isRest_47 : decode cX6_isRest 47 = .ok (.iload_n 0, 1) := dk_26 (dk_at dksX6_isRest_1 23 rfl rfl)
theorem dX6_isRest_48 : decode cX6_isRest 48 = .ok (.iload_n 3, 1) := dk_29 (dk_at dksX6_isRest_2 0 rfl rfl)
theorem dX6_isRest_49 : decode cX6_isRest 49 = .ok (.ifCond .ne 7, 3) := dk_154 0 7 (dk_at dksX6_isRest_2 1 rfl rfl)
theorem dX6_isRest_52 : decode cX6_isRest 52 = .ok (.iconst 1, 1) := dk_4 (dk_at dksX6_isRest_2 4 rfl rfl)
theorem dX6_isRest_53 : decode cX6_isRest 53 = .ok (.goto 4, 3) := dk_167 0 4 (dk_at dksX6_isRest_2 5 rfl rfl)
theorem dX6_isRest_56 : decode cX6_isRest 56 = .ok (.iconst 0, 1) := dk_3 (dk_at dksX6_isRest_2 8 rfl rfl)
theorem dX6_isRest_57 : decode cX6_isRest 57 = .ok (.iload_n 2, 1) := dk_28 (dk_at dksX6_isRest_2 9 rfl rfl)
theorem dX6_isRest_58 : decode cX6_isRest 58 = .ok (.invokestatic 437, 3) := dk_184 1 181 (dk_at dksX6_isRest_2 10 rfl rfl)
theorem dX6_isRest_61 : decode cX6_isRest 61 = .ok (.iload_n 0, 1) := dk_26 (dk_at dksX6_isRest_2 13 rfl rfl)
theorem dX6_isRest_62 : decode cX6_isRest 62 = .ok (.iload_n 3, 1) := dk_29 (dk_at dksX6_isRest_2 14 rfl rfl)
theorem dX6_isRest_63 : decode cX6_isRest 63 = .ok (.iload_n 2, 1) := dk_28 (dk_at dksX6_isRest_2 15 rfl rfl)
theorem dX6_isRest_64 : decode cX6_isRest 64 = .ok (.invokestatic 437, 3) := dk_184 1 181 (dk_at dksX6_isRest_2 16 rfl rfl)
theorem dX6_isRest_67 : decode cX6_isRest 67 = .ok (.if_icmp .gt 7, 3) := dk_163 0 7 (dk_at dksX6_isRest_2 19 rfl rfl)
theorem dX6_isRest_70 : decode cX6_isRest 70 = .ok (.iconst 1, 1) := dk_4 (dk_at dksX6_isRest_2 22 rfl rfl)
theorem dX6_isRest_71 : decode cX6_isRest 71 = .ok (.goto 4, 3) := dk_167 0 4 (dk_at dksX6_isRest_3 0 rfl rfl)
theorem dX6_isRest_74 : decode cX6_isRest 74 = .ok (.iconst 0, 1) := dk_3 (dk_at dksX6_isRest_3 3 rfl rfl)
theorem dX6_isRest_75 : decode cX6_isRest 75 = .ok (.ireturn, 1) := dk_172 (dk_at dksX6_isRest_3 4 rfl rfl)
abbrev cX6_rest : ByteArray := prog_15_method_118_code
def yX6_rest : MethodName := ⟨RX6, "rest", "(I)I"⟩
def dkwX6_rest_2 : List UInt8 := [182, 0, 59, 172, 132, 3, 1, 167, 255, 225, 42, 16, 254, 182, 0, 59, 172]
abbrev dktX6_rest_2 : List UInt8 := dkwX6_rest_2 ++ []
def dkwX6_rest_1 : List UInt8 := [7, 162, 0, 32, 27, 29, 184, 1, 185, 153, 0, 18, 42, 16, 10, 29, 5, 108, 104, 29, 5, 112, 96]
abbrev dktX6_rest_1 : List UInt8 := dkwX6_rest_1 ++ dktX6_rest_2
def dkwX6_rest_0 : List UInt8 := [42, 3, 181, 0, 49, 42, 27, 182, 1, 175, 61, 28, 158, 0, 9, 42, 28, 182, 0, 55, 172, 3, 62, 29]
abbrev dktX6_rest_0 : List UInt8 := dkwX6_rest_0 ++ dktX6_rest_1
theorem dksX6_rest_0 : cX6_rest.data.toList.drop 0 = dktX6_rest_0 := by decide +kernel
theorem dksX6_rest_1 : cX6_rest.data.toList.drop 24 = dktX6_rest_1 := dk_seg dksX6_rest_0 24 rfl rfl
theorem dksX6_rest_2 : cX6_rest.data.toList.drop 47 = dktX6_rest_2 := dk_seg dksX6_rest_1 23 rfl rfl
theorem dX6_rest_0 : decode cX6_rest 0 = .ok (.aload_n 0, 1) := dk_42 (dk_at dksX6_rest_0 0 rfl rfl)
theorem dX6_rest_1 : decode cX6_rest 1 = .ok (.iconst 0, 1) := dk_3 (dk_at dksX6_rest_0 1 rfl rfl)
theorem dX6_rest_2 : decode cX6_rest 2 = .ok (.putfield 49, 3) := dk_181 0 49 (dk_at dksX6_rest_0 2 rfl rfl)
theorem dX6_rest_5 : decode cX6_rest 5 = .ok (.aload_n 0, 1) := dk_42 (dk_at dksX6_rest_0 5 rfl rfl)
theorem dX6_rest_6 : decode cX6_rest 6 = .ok (.iload_n 1, 1) := dk_27 (dk_at dksX6_rest_0 6 rfl rfl)
theorem dX6_rest_7 : decode cX6_rest 7 = .ok (.invokevirtual 431, 3) := dk_182 1 175 (dk_at dksX6_rest_0 7 rfl rfl)
theorem dX6_rest_10 : decode cX6_rest 10 = .ok (.istore_n 2, 1) := dk_61 (dk_at dksX6_rest_0 10 rfl rfl)
theorem dX6_rest_11 : decode cX6_rest 11 = .ok (.iload_n 2, 1) := dk_28 (dk_at dksX6_rest_0 11 rfl rfl)
theorem dX6_rest_12 : decode cX6_rest 12 = .ok (.ifCond .le 9, 3) := dk_158 0 9 (dk_at dksX6_rest_0 12 rfl rfl)
theorem dX6_rest_15 : decode cX6_rest 15 = .ok (.aload_n 0, 1) := dk_42 (dk_at dksX6_rest_0 15 rfl rfl)
theorem dX6_rest_16 : decode cX6_rest 16 = .ok (.iload_n 2, 1) := dk_28 (dk_at dksX6_rest_0 16 rfl rfl)
theorem dX6_rest_17 : decode cX6_rest 17 = .ok (.invokevirtual 55, 3) := dk_182 0 55 (dk_at dksX6_rest_0 17 rfl rfl)
theorem dX6_rest_20 : decode cX6_rest 20 = .ok (.ireturn, 1) := dk_172 (dk_at dksX6_rest_0 20 rfl rfl)
theorem dX6_rest_21 : decode cX6_rest 21 = .ok (.iconst 0, 1) := dk_3 (dk_at dksX6_rest_0 21 rfl rfl)
theorem dX6_rest_22 : decode cX6_rest 22 = .ok (.istore_n 3, 1) := dk_62 (dk_at dksX6_rest_0 22 rfl rfl)
theorem dX6_rest_23 : decode cX6_rest 23 = .ok (.iload_n 3, 1) := dk_29 (dk_at dksX6_rest_0 23 rfl rfl)
theorem dX6_rest_24 : decode cX6_rest 24 = .ok (.iconst 4, 1) := dk_7 (dk_at dksX6_rest_1 0 rfl rfl)
theorem dX6_rest_25 : decode cX6_rest 25 = .ok (.if_icmp .ge 32, 3) := dk_162 0 32 (dk_at dksX6_rest_1 1 rfl rfl)
theorem dX6_rest_28 : decode cX6_rest 28 = .ok (.iload_n 1, 1) := dk_27 (dk_at dksX6_rest_1 4 rfl rfl)
theorem dX6_rest_29 : decode cX6_rest 29 = .ok (.iload_n 3, 1) := dk_29 (dk_at dksX6_rest_1 5 rfl rfl)
theorem dX6_rest_30 : decode cX6_rest 30 = .ok (.invokestatic 441, 3) := dk_184 1 185 (dk_at dksX6_rest_1 6 rfl rfl)
theorem dX6_rest_33 : decode cX6_rest 33 = .ok (.ifCond .eq 18, 3) := dk_153 0 18 (dk_at dksX6_rest_1 9 rfl rfl)
theorem dX6_rest_36 : decode cX6_rest 36 = .ok (.aload_n 0, 1) := dk_42 (dk_at dksX6_rest_1 12 rfl rfl)
theorem dX6_rest_37 : decode cX6_rest 37 = .ok (.bipush 10, 2) := dk_16 10 (dk_at dksX6_rest_1 13 rfl rfl)
theorem dX6_rest_39 : decode cX6_rest 39 = .ok (.iload_n 3, 1) := dk_29 (dk_at dksX6_rest_1 15 rfl rfl)
theorem dX6_rest_40 : decode cX6_rest 40 = .ok (.iconst 2, 1) := dk_5 (dk_at dksX6_rest_1 16 rfl rfl)
theorem dX6_rest_41 : decode cX6_rest 41 = .ok (.idiv, 1) := dk_108 (dk_at dksX6_rest_1 17 rfl rfl)
theorem dX6_rest_42 : decode cX6_rest 42 = .ok (.imul, 1) := dk_104 (dk_at dksX6_rest_1 18 rfl rfl)
theorem dX6_rest_43 : decode cX6_rest 43 = .ok (.iload_n 3, 1) := dk_29 (dk_at dksX6_rest_1 19 rfl rfl)
theorem dX6_rest_44 : decode cX6_rest 44 = .ok (.iconst 2, 1) := dk_5 (dk_at dksX6_rest_1 20 rfl rfl)
theorem dX6_rest_45 : decode cX6_rest 45 = .ok (.irem, 1) := dk_112 (dk_at dksX6_rest_1 21 rfl rfl)
theorem dX6_rest_46 : decode cX6_rest 46 = .ok (.iadd, 1) := dk_96 (dk_at dksX6_rest_1 22 rfl rfl)
theorem dX6_rest_47 : decode cX6_rest 47 = .ok (.invokevirtual 59, 3) := dk_182 0 59 (dk_at dksX6_rest_2 0 rfl rfl)
theorem dX6_rest_50 : decode cX6_rest 50 = .ok (.ireturn, 1) := dk_172 (dk_at dksX6_rest_2 3 rfl rfl)
theorem dX6_rest_51 : decode cX6_rest 51 = .ok (.iinc 3 1, 3) := dk_132 3 1 (dk_at dksX6_rest_2 4 rfl rfl)
theorem dX6_rest_54 : decode cX6_rest 54 = .ok (.goto (-31), 3) := dk_167 255 225 (dk_at dksX6_rest_2 7 rfl rfl)
theorem dX6_rest_57 : decode cX6_rest 57 = .ok (.aload_n 0, 1) := dk_42 (dk_at dksX6_rest_2 10 rfl rfl)
theorem dX6_rest_58 : decode cX6_rest 58 = .ok (.bipush (-2), 2) := dk_16 254 (dk_at dksX6_rest_2 11 rfl rfl)
theorem dX6_rest_60 : decode cX6_rest 60 = .ok (.invokevirtual 59, 3) := dk_182 0 59 (dk_at dksX6_rest_2 13 rfl rfl)
theorem dX6_rest_63 : decode cX6_rest 63 = .ok (.ireturn, 1) := dk_172 (dk_at dksX6_rest_2 16 rfl rfl)
abbrev cX6_odds : ByteArray := prog_15_method_121_code
def yX6_odds : MethodName := ⟨RX6, "odds", "(IIZ)J"⟩
def dkwX6_odds_2 : List UInt8 := [182, 1, 191, 133, 20, 1, 194, 29, 182, 1, 196, 173]
abbrev dktX6_odds_2 : List UInt8 := dkwX6_odds_2 ++ []
def dkwX6_odds_1 : List UInt8 := [21, 4, 182, 0, 55, 133, 173, 42, 182, 1, 86, 42, 42, 42, 180, 1, 47, 180, 1, 7, 27, 46, 27, 28]
abbrev dktX6_odds_1 : List UInt8 := dkwX6_odds_1 ++ dktX6_odds_2
def dkwX6_odds_0 : List UInt8 := [42, 3, 181, 0, 49, 42, 42, 27, 182, 1, 92, 28, 182, 1, 98, 54, 4, 21, 4, 158, 0, 11, 42]
abbrev dktX6_odds_0 : List UInt8 := dkwX6_odds_0 ++ dktX6_odds_1
theorem dksX6_odds_0 : cX6_odds.data.toList.drop 0 = dktX6_odds_0 := by decide +kernel
theorem dksX6_odds_1 : cX6_odds.data.toList.drop 23 = dktX6_odds_1 := dk_seg dksX6_odds_0 23 rfl rfl
theorem dksX6_odds_2 : cX6_odds.data.toList.drop 47 = dktX6_odds_2 := dk_seg dksX6_odds_1 24 rfl rfl
theorem dX6_odds_0 : decode cX6_odds 0 = .ok (.aload_n 0, 1) := dk_42 (dk_at dksX6_odds_0 0 rfl rfl)
theorem dX6_odds_1 : decode cX6_odds 1 = .ok (.iconst 0, 1) := dk_3 (dk_at dksX6_odds_0 1 rfl rfl)
theorem dX6_odds_2 : decode cX6_odds 2 = .ok (.putfield 49, 3) := dk_181 0 49 (dk_at dksX6_odds_0 2 rfl rfl)
theorem dX6_odds_5 : decode cX6_odds 5 = .ok (.aload_n 0, 1) := dk_42 (dk_at dksX6_odds_0 5 rfl rfl)
theorem dX6_odds_6 : decode cX6_odds 6 = .ok (.aload_n 0, 1) := dk_42 (dk_at dksX6_odds_0 6 rfl rfl)
theorem dX6_odds_7 : decode cX6_odds 7 = .ok (.iload_n 1, 1) := dk_27 (dk_at dksX6_odds_0 7 rfl rfl)
theorem dX6_odds_8 : decode cX6_odds 8 = .ok (.invokevirtual 348, 3) := dk_182 1 92 (dk_at dksX6_odds_0 8 rfl rfl)
theorem dX6_odds_11 : decode cX6_odds 11 = .ok (.iload_n 2, 1) := dk_28 (dk_at dksX6_odds_0 11 rfl rfl)
theorem dX6_odds_12 : decode cX6_odds 12 = .ok (.invokevirtual 354, 3) := dk_182 1 98 (dk_at dksX6_odds_0 12 rfl rfl)
theorem dX6_odds_15 : decode cX6_odds 15 = .ok (.istore 4, 2) := dk_54 4 (dk_at dksX6_odds_0 15 rfl rfl)
theorem dX6_odds_17 : decode cX6_odds 17 = .ok (.iload 4, 2) := dk_21 4 (dk_at dksX6_odds_0 17 rfl rfl)
theorem dX6_odds_19 : decode cX6_odds 19 = .ok (.ifCond .le 11, 3) := dk_158 0 11 (dk_at dksX6_odds_0 19 rfl rfl)
theorem dX6_odds_22 : decode cX6_odds 22 = .ok (.aload_n 0, 1) := dk_42 (dk_at dksX6_odds_0 22 rfl rfl)
theorem dX6_odds_23 : decode cX6_odds 23 = .ok (.iload 4, 2) := dk_21 4 (dk_at dksX6_odds_1 0 rfl rfl)
theorem dX6_odds_25 : decode cX6_odds 25 = .ok (.invokevirtual 55, 3) := dk_182 0 55 (dk_at dksX6_odds_1 2 rfl rfl)
theorem dX6_odds_28 : decode cX6_odds 28 = .ok (.i2l, 1) := dk_133 (dk_at dksX6_odds_1 5 rfl rfl)
theorem dX6_odds_29 : decode cX6_odds 29 = .ok (.lreturn, 1) := dk_173 (dk_at dksX6_odds_1 6 rfl rfl)
theorem dX6_odds_30 : decode cX6_odds 30 = .ok (.aload_n 0, 1) := dk_42 (dk_at dksX6_odds_1 7 rfl rfl)
theorem dX6_odds_31 : decode cX6_odds 31 = .ok (.invokevirtual 342, 3) := dk_182 1 86 (dk_at dksX6_odds_1 8 rfl rfl)
theorem dX6_odds_34 : decode cX6_odds 34 = .ok (.aload_n 0, 1) := dk_42 (dk_at dksX6_odds_1 11 rfl rfl)
theorem dX6_odds_35 : decode cX6_odds 35 = .ok (.aload_n 0, 1) := dk_42 (dk_at dksX6_odds_1 12 rfl rfl)
theorem dX6_odds_36 : decode cX6_odds 36 = .ok (.aload_n 0, 1) := dk_42 (dk_at dksX6_odds_1 13 rfl rfl)
theorem dX6_odds_37 : decode cX6_odds 37 = .ok (.getfield 303, 3) := dk_180 1 47 (dk_at dksX6_odds_1 14 rfl rfl)
theorem dX6_odds_40 : decode cX6_odds 40 = .ok (.getfield 263, 3) := dk_180 1 7 (dk_at dksX6_odds_1 17 rfl rfl)
theorem dX6_odds_43 : decode cX6_odds 43 = .ok (.iload_n 1, 1) := dk_27 (dk_at dksX6_odds_1 20 rfl rfl)
theorem dX6_odds_44 : decode cX6_odds 44 = .ok (.iaload, 1) := dk_46 (dk_at dksX6_odds_1 21 rfl rfl)
theorem dX6_odds_45 : decode cX6_odds 45 = .ok (.iload_n 1, 1) := dk_27 (dk_at dksX6_odds_1 22 rfl rfl)
theorem dX6_odds_46 : decode cX6_odds 46 = .ok (.iload_n 2, 1) := dk_28 (dk_at dksX6_odds_1 23 rfl rfl)
theorem dX6_odds_47 : decode cX6_odds 47 = .ok (.invokevirtual 447, 3) := dk_182 1 191 (dk_at dksX6_odds_2 0 rfl rfl)
theorem dX6_odds_50 : decode cX6_odds 50 = .ok (.i2l, 1) := dk_133 (dk_at dksX6_odds_2 3 rfl rfl)
theorem dX6_odds_51 : decode cX6_odds 51 = .ok (.ldc2_w 450, 3) := dk_20 1 194 (dk_at dksX6_odds_2 4 rfl rfl)
theorem dX6_odds_54 : decode cX6_odds 54 = .ok (.iload_n 3, 1) := dk_29 (dk_at dksX6_odds_2 7 rfl rfl)
theorem dX6_odds_55 : decode cX6_odds 55 = .ok (.invokevirtual 452, 3) := dk_182 1 196 (dk_at dksX6_odds_2 8 rfl rfl)
theorem dX6_odds_58 : decode cX6_odds 58 = .ok (.lreturn, 1) := dk_173 (dk_at dksX6_odds_2 11 rfl rfl)
abbrev cX6_chance : ByteArray := prog_15_method_120_code
def yX6_chance : MethodName := ⟨RX6, "chance", "(III)I"⟩
def dkwX6_chance_2 : List UInt8 := [172]
abbrev dktX6_chance_2 : List UInt8 := dkwX6_chance_2 ++ []
def dkwX6_chance_1 : List UInt8 := [3, 42, 28, 29, 4, 182, 1, 188, 27, 160, 0, 13, 42, 180, 1, 47, 180, 0, 221, 167, 0, 4, 3, 96]
abbrev dktX6_chance_1 : List UInt8 := dkwX6_chance_1 ++ dktX6_chance_2
def dkwX6_chance_0 : List UInt8 := [42, 28, 29, 3, 182, 1, 188, 27, 160, 0, 16, 16, 100, 42, 180, 1, 47, 180, 0, 221, 100, 167, 0, 4]
abbrev dktX6_chance_0 : List UInt8 := dkwX6_chance_0 ++ dktX6_chance_1
theorem dksX6_chance_0 : cX6_chance.data.toList.drop 0 = dktX6_chance_0 := by decide +kernel
theorem dksX6_chance_1 : cX6_chance.data.toList.drop 24 = dktX6_chance_1 := dk_seg dksX6_chance_0 24 rfl rfl
theorem dksX6_chance_2 : cX6_chance.data.toList.drop 48 = dktX6_chance_2 := dk_seg dksX6_chance_1 24 rfl rfl
theorem dX6_chance_0 : decode cX6_chance 0 = .ok (.aload_n 0, 1) := dk_42 (dk_at dksX6_chance_0 0 rfl rfl)
theorem dX6_chance_1 : decode cX6_chance 1 = .ok (.iload_n 2, 1) := dk_28 (dk_at dksX6_chance_0 1 rfl rfl)
theorem dX6_chance_2 : decode cX6_chance 2 = .ok (.iload_n 3, 1) := dk_29 (dk_at dksX6_chance_0 2 rfl rfl)
theorem dX6_chance_3 : decode cX6_chance 3 = .ok (.iconst 0, 1) := dk_3 (dk_at dksX6_chance_0 3 rfl rfl)
theorem dX6_chance_4 : decode cX6_chance 4 = .ok (.invokevirtual 444, 3) := dk_182 1 188 (dk_at dksX6_chance_0 4 rfl rfl)
theorem dX6_chance_7 : decode cX6_chance 7 = .ok (.iload_n 1, 1) := dk_27 (dk_at dksX6_chance_0 7 rfl rfl)
theorem dX6_chance_8 : decode cX6_chance 8 = .ok (.if_icmp .ne 16, 3) := dk_160 0 16 (dk_at dksX6_chance_0 8 rfl rfl)
theorem dX6_chance_11 : decode cX6_chance 11 = .ok (.bipush 100, 2) := dk_16 100 (dk_at dksX6_chance_0 11 rfl rfl)
theorem dX6_chance_13 : decode cX6_chance 13 = .ok (.aload_n 0, 1) := dk_42 (dk_at dksX6_chance_0 13 rfl rfl)
theorem dX6_chance_14 : decode cX6_chance 14 = .ok (.getfield 303, 3) := dk_180 1 47 (dk_at dksX6_chance_0 14 rfl rfl)
theorem dX6_chance_17 : decode cX6_chance 17 = .ok (.getfield 221, 3) := dk_180 0 221 (dk_at dksX6_chance_0 17 rfl rfl)
theorem dX6_chance_20 : decode cX6_chance 20 = .ok (.isub, 1) := dk_100 (dk_at dksX6_chance_0 20 rfl rfl)
theorem dX6_chance_21 : decode cX6_chance 21 = .ok (.goto 4, 3) := dk_167 0 4 (dk_at dksX6_chance_0 21 rfl rfl)
theorem dX6_chance_24 : decode cX6_chance 24 = .ok (.iconst 0, 1) := dk_3 (dk_at dksX6_chance_1 0 rfl rfl)
theorem dX6_chance_25 : decode cX6_chance 25 = .ok (.aload_n 0, 1) := dk_42 (dk_at dksX6_chance_1 1 rfl rfl)
theorem dX6_chance_26 : decode cX6_chance 26 = .ok (.iload_n 2, 1) := dk_28 (dk_at dksX6_chance_1 2 rfl rfl)
theorem dX6_chance_27 : decode cX6_chance 27 = .ok (.iload_n 3, 1) := dk_29 (dk_at dksX6_chance_1 3 rfl rfl)
theorem dX6_chance_28 : decode cX6_chance 28 = .ok (.iconst 1, 1) := dk_4 (dk_at dksX6_chance_1 4 rfl rfl)
theorem dX6_chance_29 : decode cX6_chance 29 = .ok (.invokevirtual 444, 3) := dk_182 1 188 (dk_at dksX6_chance_1 5 rfl rfl)
theorem dX6_chance_32 : decode cX6_chance 32 = .ok (.iload_n 1, 1) := dk_27 (dk_at dksX6_chance_1 8 rfl rfl)
theorem dX6_chance_33 : decode cX6_chance 33 = .ok (.if_icmp .ne 13, 3) := dk_160 0 13 (dk_at dksX6_chance_1 9 rfl rfl)
theorem dX6_chance_36 : decode cX6_chance 36 = .ok (.aload_n 0, 1) := dk_42 (dk_at dksX6_chance_1 12 rfl rfl)
theorem dX6_chance_37 : decode cX6_chance 37 = .ok (.getfield 303, 3) := dk_180 1 47 (dk_at dksX6_chance_1 13 rfl rfl)
theorem dX6_chance_40 : decode cX6_chance 40 = .ok (.getfield 221, 3) := dk_180 0 221 (dk_at dksX6_chance_1 16 rfl rfl)
theorem dX6_chance_43 : decode cX6_chance 43 = .ok (.goto 4, 3) := dk_167 0 4 (dk_at dksX6_chance_1 19 rfl rfl)
theorem dX6_chance_46 : decode cX6_chance 46 = .ok (.iconst 0, 1) := dk_3 (dk_at dksX6_chance_1 22 rfl rfl)
theorem dX6_chance_47 : decode cX6_chance 47 = .ok (.iadd, 1) := dk_96 (dk_at dksX6_chance_1 23 rfl rfl)
theorem dX6_chance_48 : decode cX6_chance 48 = .ok (.ireturn, 1) := dk_172 (dk_at dksX6_chance_2 0 rfl rfl)
abbrev cX6_hearerBy : ByteArray := prog_15_method_119_code
def yX6_hearerBy : MethodName := ⟨RX6, "hearerBy", "(III)I"⟩
def dkwX6_hearerBy_0 : List UInt8 := [42, 42, 42, 27, 42, 27, 182, 1, 67, 28, 182, 1, 70, 29, 96, 133, 182, 1, 61, 182, 1, 74, 172]
abbrev dktX6_hearerBy_0 : List UInt8 := dkwX6_hearerBy_0 ++ []
theorem dksX6_hearerBy_0 : cX6_hearerBy.data.toList.drop 0 = dktX6_hearerBy_0 := by decide +kernel
theorem dX6_hearerBy_0 : decode cX6_hearerBy 0 = .ok (.aload_n 0, 1) := dk_42 (dk_at dksX6_hearerBy_0 0 rfl rfl)
theorem dX6_hearerBy_1 : decode cX6_hearerBy 1 = .ok (.aload_n 0, 1) := dk_42 (dk_at dksX6_hearerBy_0 1 rfl rfl)
theorem dX6_hearerBy_2 : decode cX6_hearerBy 2 = .ok (.aload_n 0, 1) := dk_42 (dk_at dksX6_hearerBy_0 2 rfl rfl)
theorem dX6_hearerBy_3 : decode cX6_hearerBy 3 = .ok (.iload_n 1, 1) := dk_27 (dk_at dksX6_hearerBy_0 3 rfl rfl)
theorem dX6_hearerBy_4 : decode cX6_hearerBy 4 = .ok (.aload_n 0, 1) := dk_42 (dk_at dksX6_hearerBy_0 4 rfl rfl)
theorem dX6_hearerBy_5 : decode cX6_hearerBy 5 = .ok (.iload_n 1, 1) := dk_27 (dk_at dksX6_hearerBy_0 5 rfl rfl)
theorem dX6_hearerBy_6 : decode cX6_hearerBy 6 = .ok (.invokevirtual 323, 3) := dk_182 1 67 (dk_at dksX6_hearerBy_0 6 rfl rfl)
theorem dX6_hearerBy_9 : decode cX6_hearerBy 9 = .ok (.iload_n 2, 1) := dk_28 (dk_at dksX6_hearerBy_0 9 rfl rfl)
theorem dX6_hearerBy_10 : decode cX6_hearerBy 10 = .ok (.invokevirtual 326, 3) := dk_182 1 70 (dk_at dksX6_hearerBy_0 10 rfl rfl)
theorem dX6_hearerBy_13 : decode cX6_hearerBy 13 = .ok (.iload_n 3, 1) := dk_29 (dk_at dksX6_hearerBy_0 13 rfl rfl)
theorem dX6_hearerBy_14 : decode cX6_hearerBy 14 = .ok (.iadd, 1) := dk_96 (dk_at dksX6_hearerBy_0 14 rfl rfl)
theorem dX6_hearerBy_15 : decode cX6_hearerBy 15 = .ok (.i2l, 1) := dk_133 (dk_at dksX6_hearerBy_0 15 rfl rfl)
theorem dX6_hearerBy_16 : decode cX6_hearerBy 16 = .ok (.invokevirtual 317, 3) := dk_182 1 61 (dk_at dksX6_hearerBy_0 16 rfl rfl)
theorem dX6_hearerBy_19 : decode cX6_hearerBy 19 = .ok (.invokevirtual 330, 3) := dk_182 1 74 (dk_at dksX6_hearerBy_0 19 rfl rfl)
theorem dX6_hearerBy_22 : decode cX6_hearerBy 22 = .ok (.ireturn, 1) := dk_172 (dk_at dksX6_hearerBy_0 22 rfl rfl)
abbrev cX6_fraction : ByteArray := prog_15_method_12_code
def yX6_fraction : MethodName := ⟨RX6, "fraction", "(JJZ)J"⟩
def dkwX6_fraction_0 : List UInt8 := [42, 3, 182, 0, 59, 87, 21, 5, 153, 0, 7, 33, 167, 0, 4, 31, 31, 33, 184, 0, 62, 109, 173]
abbrev dktX6_fraction_0 : List UInt8 := dkwX6_fraction_0 ++ []
theorem dksX6_fraction_0 : cX6_fraction.data.toList.drop 0 = dktX6_fraction_0 := by decide +kernel
theorem dX6_fraction_0 : decode cX6_fraction 0 = .ok (.aload_n 0, 1) := dk_42 (dk_at dksX6_fraction_0 0 rfl rfl)
theorem dX6_fraction_1 : decode cX6_fraction 1 = .ok (.iconst 0, 1) := dk_3 (dk_at dksX6_fraction_0 1 rfl rfl)
theorem dX6_fraction_2 : decode cX6_fraction 2 = .ok (.invokevirtual 59, 3) := dk_182 0 59 (dk_at dksX6_fraction_0 2 rfl rfl)
theorem dX6_fraction_5 : decode cX6_fraction 5 = .ok (.pop, 1) := dk_87 (dk_at dksX6_fraction_0 5 rfl rfl)
theorem dX6_fraction_6 : decode cX6_fraction 6 = .ok (.iload 5, 2) := dk_21 5 (dk_at dksX6_fraction_0 6 rfl rfl)
theorem dX6_fraction_8 : decode cX6_fraction 8 = .ok (.ifCond .eq 7, 3) := dk_153 0 7 (dk_at dksX6_fraction_0 8 rfl rfl)
theorem dX6_fraction_11 : decode cX6_fraction 11 = .ok (.lload_n 3, 1) := dk_33 (dk_at dksX6_fraction_0 11 rfl rfl)
theorem dX6_fraction_12 : decode cX6_fraction 12 = .ok (.goto 4, 3) := dk_167 0 4 (dk_at dksX6_fraction_0 12 rfl rfl)
theorem dX6_fraction_15 : decode cX6_fraction 15 = .ok (.lload_n 1, 1) := dk_31 (dk_at dksX6_fraction_0 15 rfl rfl)
theorem dX6_fraction_16 : decode cX6_fraction 16 = .ok (.lload_n 1, 1) := dk_31 (dk_at dksX6_fraction_0 16 rfl rfl)
theorem dX6_fraction_17 : decode cX6_fraction 17 = .ok (.lload_n 3, 1) := dk_33 (dk_at dksX6_fraction_0 17 rfl rfl)
theorem dX6_fraction_18 : decode cX6_fraction 18 = .ok (.invokestatic 62, 3) := dk_184 0 62 (dk_at dksX6_fraction_0 18 rfl rfl)
theorem dX6_fraction_21 : decode cX6_fraction 21 = .ok (.ldiv, 1) := dk_109 (dk_at dksX6_fraction_0 21 rfl rfl)
theorem dX6_fraction_22 : decode cX6_fraction 22 = .ok (.lreturn, 1) := dk_173 (dk_at dksX6_fraction_0 22 rfl rfl)
abbrev cX6_common : ByteArray := prog_15_method_11_code
def yX6_common : MethodName := ⟨RX6, "common", "(JJ)J"⟩
def dkwX6_common_1 : List UInt8 := [22, 8, 55, 6, 167, 255, 234, 22, 4, 173]
abbrev dktX6_common_1 : List UInt8 := dkwX6_common_1 ++ []
def dkwX6_common_0 : List UInt8 := [30, 55, 4, 32, 55, 6, 22, 6, 9, 148, 153, 0, 21, 22, 4, 22, 6, 113, 55, 8, 22, 6, 55, 4]
abbrev dktX6_common_0 : List UInt8 := dkwX6_common_0 ++ dktX6_common_1
theorem dksX6_common_0 : cX6_common.data.toList.drop 0 = dktX6_common_0 := by decide +kernel
theorem dksX6_common_1 : cX6_common.data.toList.drop 24 = dktX6_common_1 := dk_seg dksX6_common_0 24 rfl rfl
theorem dX6_common_0 : decode cX6_common 0 = .ok (.lload_n 0, 1) := dk_30 (dk_at dksX6_common_0 0 rfl rfl)
theorem dX6_common_1 : decode cX6_common 1 = .ok (.lstore 4, 2) := dk_55 4 (dk_at dksX6_common_0 1 rfl rfl)
theorem dX6_common_3 : decode cX6_common 3 = .ok (.lload_n 2, 1) := dk_32 (dk_at dksX6_common_0 3 rfl rfl)
theorem dX6_common_4 : decode cX6_common 4 = .ok (.lstore 6, 2) := dk_55 6 (dk_at dksX6_common_0 4 rfl rfl)
theorem dX6_common_6 : decode cX6_common 6 = .ok (.lload 6, 2) := dk_22 6 (dk_at dksX6_common_0 6 rfl rfl)
theorem dX6_common_8 : decode cX6_common 8 = .ok (.lconst 0, 1) := dk_9 (dk_at dksX6_common_0 8 rfl rfl)
theorem dX6_common_9 : decode cX6_common 9 = .ok (.lcmp, 1) := dk_148 (dk_at dksX6_common_0 9 rfl rfl)
theorem dX6_common_10 : decode cX6_common 10 = .ok (.ifCond .eq 21, 3) := dk_153 0 21 (dk_at dksX6_common_0 10 rfl rfl)
theorem dX6_common_13 : decode cX6_common 13 = .ok (.lload 4, 2) := dk_22 4 (dk_at dksX6_common_0 13 rfl rfl)
theorem dX6_common_15 : decode cX6_common 15 = .ok (.lload 6, 2) := dk_22 6 (dk_at dksX6_common_0 15 rfl rfl)
theorem dX6_common_17 : decode cX6_common 17 = .ok (.lrem, 1) := dk_113 (dk_at dksX6_common_0 17 rfl rfl)
theorem dX6_common_18 : decode cX6_common 18 = .ok (.lstore 8, 2) := dk_55 8 (dk_at dksX6_common_0 18 rfl rfl)
theorem dX6_common_20 : decode cX6_common 20 = .ok (.lload 6, 2) := dk_22 6 (dk_at dksX6_common_0 20 rfl rfl)
theorem dX6_common_22 : decode cX6_common 22 = .ok (.lstore 4, 2) := dk_55 4 (dk_at dksX6_common_0 22 rfl rfl)
theorem dX6_common_24 : decode cX6_common 24 = .ok (.lload 8, 2) := dk_22 8 (dk_at dksX6_common_1 0 rfl rfl)
theorem dX6_common_26 : decode cX6_common 26 = .ok (.lstore 6, 2) := dk_55 6 (dk_at dksX6_common_1 2 rfl rfl)
theorem dX6_common_28 : decode cX6_common 28 = .ok (.goto (-22), 3) := dk_167 255 234 (dk_at dksX6_common_1 4 rfl rfl)
theorem dX6_common_31 : decode cX6_common 31 = .ok (.lload 4, 2) := dk_22 4 (dk_at dksX6_common_1 7 rfl rfl)
theorem dX6_common_33 : decode cX6_common 33 = .ok (.lreturn, 1) := dk_173 (dk_at dksX6_common_1 9 rfl rfl)
abbrev cX6_most : ByteArray := prog_15_method_122_code
def yX6_most : MethodName := ⟨RX6, "most", "(IIZ)J"⟩
def dkwX6_most_9 : List UInt8 := [47, 97, 55, 6, 132, 8, 1, 167, 255, 234, 42, 22, 6, 22, 4, 29, 182, 1, 196, 173]
abbrev dktX6_most_9 : List UInt8 := dkwX6_most_9 ++ []
def dkwX6_most_8 : List UInt8 := [167, 255, 155, 9, 55, 6, 27, 54, 8, 21, 8, 16, 6, 163, 0, 21, 22, 6, 42, 180, 0, 45, 21, 8]
abbrev dktX6_most_8 : List UInt8 := dkwX6_most_8 ++ dktX6_most_9
def dkwX6_most_7 : List UInt8 := [105, 167, 0, 4, 9, 97, 80, 132, 8, 255, 167, 255, 204, 22, 4, 20, 1, 194, 105, 55, 4, 132, 6, 1]
abbrev dktX6_most_7 : List UInt8 := dkwX6_most_7 ++ dktX6_most_8
def dkwX6_most_6 : List UInt8 := [16, 100, 21, 7, 100, 133, 105, 21, 8, 158, 0, 19, 42, 180, 0, 45, 21, 8, 4, 100, 47, 21, 7, 133]
abbrev dktX6_most_6 : List UInt8 := dkwX6_most_6 ++ dktX6_most_7
def dkwX6_most_5 : List UInt8 := [54, 7, 16, 6, 54, 8, 21, 8, 155, 0, 53, 42, 180, 0, 45, 21, 8, 42, 180, 0, 45, 21, 8, 47]
abbrev dktX6_most_5 : List UInt8 := dkwX6_most_5 ++ dktX6_most_6
def dkwX6_most_4 : List UInt8 := [180, 0, 241, 162, 0, 95, 42, 42, 180, 1, 47, 180, 1, 7, 21, 6, 46, 21, 6, 28, 182, 1, 191]
abbrev dktX6_most_4 : List UInt8 := dkwX6_most_4 ++ dktX6_most_5
def dkwX6_most_3 : List UInt8 := [154, 0, 7, 10, 167, 0, 4, 9, 80, 132, 6, 1, 167, 255, 229, 3, 54, 6, 21, 6, 42, 180, 1, 47]
abbrev dktX6_most_3 : List UInt8 := dkwX6_most_3 ++ dktX6_most_4
def dkwX6_most_2 : List UInt8 := [182, 1, 86, 10, 55, 4, 3, 54, 6, 21, 6, 16, 6, 163, 0, 26, 42, 180, 0, 45, 21, 6, 21, 6]
abbrev dktX6_most_2 : List UInt8 := dkwX6_most_2 ++ dktX6_most_3
def dkwX6_most_1 : List UInt8 := [184, 0, 128, 153, 0, 13, 28, 3, 16, 99, 184, 0, 128, 154, 0, 10, 42, 5, 182, 0, 55, 133, 173, 42]
abbrev dktX6_most_1 : List UInt8 := dkwX6_most_1 ++ dktX6_most_2
def dkwX6_most_0 : List UInt8 := [42, 3, 181, 0, 49, 42, 180, 1, 47, 199, 0, 10, 42, 4, 182, 0, 55, 133, 173, 27, 3, 16, 6]
abbrev dktX6_most_0 : List UInt8 := dkwX6_most_0 ++ dktX6_most_1
theorem dksX6_most_0 : cX6_most.data.toList.drop 0 = dktX6_most_0 := by decide +kernel
theorem dksX6_most_1 : cX6_most.data.toList.drop 23 = dktX6_most_1 := dk_seg dksX6_most_0 23 rfl rfl
theorem dksX6_most_2 : cX6_most.data.toList.drop 47 = dktX6_most_2 := dk_seg dksX6_most_1 24 rfl rfl
theorem dksX6_most_3 : cX6_most.data.toList.drop 71 = dktX6_most_3 := dk_seg dksX6_most_2 24 rfl rfl
theorem dksX6_most_4 : cX6_most.data.toList.drop 95 = dktX6_most_4 := dk_seg dksX6_most_3 24 rfl rfl
theorem dksX6_most_5 : cX6_most.data.toList.drop 118 = dktX6_most_5 := dk_seg dksX6_most_4 23 rfl rfl
theorem dksX6_most_6 : cX6_most.data.toList.drop 142 = dktX6_most_6 := dk_seg dksX6_most_5 24 rfl rfl
theorem dksX6_most_7 : cX6_most.data.toList.drop 166 = dktX6_most_7 := dk_seg dksX6_most_6 24 rfl rfl
theorem dksX6_most_8 : cX6_most.data.toList.drop 190 = dktX6_most_8 := dk_seg dksX6_most_7 24 rfl rfl
theorem dksX6_most_9 : cX6_most.data.toList.drop 214 = dktX6_most_9 := dk_seg dksX6_most_8 24 rfl rfl
theorem dX6_most_0 : decode cX6_most 0 = .ok (.aload_n 0, 1) := dk_42 (dk_at dksX6_most_0 0 rfl rfl)
theorem dX6_most_1 : decode cX6_most 1 = .ok (.iconst 0, 1) := dk_3 (dk_at dksX6_most_0 1 rfl rfl)
theorem dX6_most_2 : decode cX6_most 2 = .ok (.putfield 49, 3) := dk_181 0 49 (dk_at dksX6_most_0 2 rfl rfl)
theorem dX6_most_5 : decode cX6_most 5 = .ok (.aload_n 0, 1) := dk_42 (dk_at dksX6_most_0 5 rfl rfl)
theorem dX6_most_6 : decode cX6_most 6 = .ok (.getfield 303, 3) := dk_180 1 47 (dk_at dksX6_most_0 6 rfl rfl)
theorem dX6_most_9 : decode cX6_most 9 = .ok (.ifnonnull 10, 3) := dk_199 0 10 (dk_at dksX6_most_0 9 rfl rfl)
theorem dX6_most_12 : decode cX6_most 12 = .ok (.aload_n 0, 1) := dk_42 (dk_at dksX6_most_0 12 rfl rfl)
theorem dX6_most_13 : decode cX6_most 13 = .ok (.iconst 1, 1) := dk_4 (dk_at dksX6_most_0 13 rfl rfl)
theorem dX6_most_14 : decode cX6_most 14 = .ok (.invokevirtual 55, 3) := dk_182 0 55 (dk_at dksX6_most_0 14 rfl rfl)
theorem dX6_most_17 : decode cX6_most 17 = .ok (.i2l, 1) := dk_133 (dk_at dksX6_most_0 17 rfl rfl)
theorem dX6_most_18 : decode cX6_most 18 = .ok (.lreturn, 1) := dk_173 (dk_at dksX6_most_0 18 rfl rfl)
theorem dX6_most_19 : decode cX6_most 19 = .ok (.iload_n 1, 1) := dk_27 (dk_at dksX6_most_0 19 rfl rfl)
theorem dX6_most_20 : decode cX6_most 20 = .ok (.iconst 0, 1) := dk_3 (dk_at dksX6_most_0 20 rfl rfl)
theorem dX6_most_21 : decode cX6_most 21 = .ok (.bipush 6, 2) := dk_16 6 (dk_at dksX6_most_0 21 rfl rfl)
theorem dX6_most_23 : decode cX6_most 23 = .ok (.invokestatic 128, 3) := dk_184 0 128 (dk_at dksX6_most_1 0 rfl rfl)
theorem dX6_most_26 : decode cX6_most 26 = .ok (.ifCond .eq 13, 3) := dk_153 0 13 (dk_at dksX6_most_1 3 rfl rfl)
theorem dX6_most_29 : decode cX6_most 29 = .ok (.iload_n 2, 1) := dk_28 (dk_at dksX6_most_1 6 rfl rfl)
theorem dX6_most_30 : decode cX6_most 30 = .ok (.iconst 0, 1) := dk_3 (dk_at dksX6_most_1 7 rfl rfl)
theorem dX6_most_31 : decode cX6_most 31 = .ok (.bipush 99, 2) := dk_16 99 (dk_at dksX6_most_1 8 rfl rfl)
theorem dX6_most_33 : decode cX6_most 33 = .ok (.invokestatic 128, 3) := dk_184 0 128 (dk_at dksX6_most_1 10 rfl rfl)
theorem dX6_most_36 : decode cX6_most 36 = .ok (.ifCond .ne 10, 3) := dk_154 0 10 (dk_at dksX6_most_1 13 rfl rfl)
theorem dX6_most_39 : decode cX6_most 39 = .ok (.aload_n 0, 1) := dk_42 (dk_at dksX6_most_1 16 rfl rfl)
theorem dX6_most_40 : decode cX6_most 40 = .ok (.iconst 2, 1) := dk_5 (dk_at dksX6_most_1 17 rfl rfl)
theorem dX6_most_41 : decode cX6_most 41 = .ok (.invokevirtual 55, 3) := dk_182 0 55 (dk_at dksX6_most_1 18 rfl rfl)
theorem dX6_most_44 : decode cX6_most 44 = .ok (.i2l, 1) := dk_133 (dk_at dksX6_most_1 21 rfl rfl)
theorem dX6_most_45 : decode cX6_most 45 = .ok (.lreturn, 1) := dk_173 (dk_at dksX6_most_1 22 rfl rfl)
theorem dX6_most_46 : decode cX6_most 46 = .ok (.aload_n 0, 1) := dk_42 (dk_at dksX6_most_1 23 rfl rfl)
theorem dX6_most_47 : decode cX6_most 47 = .ok (.invokevirtual 342, 3) := dk_182 1 86 (dk_at dksX6_most_2 0 rfl rfl)
theorem dX6_most_50 : decode cX6_most 50 = .ok (.lconst 1, 1) := dk_10 (dk_at dksX6_most_2 3 rfl rfl)
theorem dX6_most_51 : decode cX6_most 51 = .ok (.lstore 4, 2) := dk_55 4 (dk_at dksX6_most_2 4 rfl rfl)
theorem dX6_most_53 : decode cX6_most 53 = .ok (.iconst 0, 1) := dk_3 (dk_at dksX6_most_2 6 rfl rfl)
theorem dX6_most_54 : decode cX6_most 54 = .ok (.istore 6, 2) := dk_54 6 (dk_at dksX6_most_2 7 rfl rfl)
theorem dX6_most_56 : decode cX6_most 56 = .ok (.iload 6, 2) := dk_21 6 (dk_at dksX6_most_2 9 rfl rfl)
theorem dX6_most_58 : decode cX6_most 58 = .ok (.bipush 6, 2) := dk_16 6 (dk_at dksX6_most_2 11 rfl rfl)
theorem dX6_most_60 : decode cX6_most 60 = .ok (.if_icmp .gt 26, 3) := dk_163 0 26 (dk_at dksX6_most_2 13 rfl rfl)
theorem dX6_most_63 : decode cX6_most 63 = .ok (.aload_n 0, 1) := dk_42 (dk_at dksX6_most_2 16 rfl rfl)
theorem dX6_most_64 : decode cX6_most 64 = .ok (.getfield 45, 3) := dk_180 0 45 (dk_at dksX6_most_2 17 rfl rfl)
theorem dX6_most_67 : decode cX6_most 67 = .ok (.iload 6, 2) := dk_21 6 (dk_at dksX6_most_2 20 rfl rfl)
theorem dX6_most_69 : decode cX6_most 69 = .ok (.iload 6, 2) := dk_21 6 (dk_at dksX6_most_2 22 rfl rfl)
theorem dX6_most_71 : decode cX6_most 71 = .ok (.ifCond .ne 7, 3) := dk_154 0 7 (dk_at dksX6_most_3 0 rfl rfl)
theorem dX6_most_74 : decode cX6_most 74 = .ok (.lconst 1, 1) := dk_10 (dk_at dksX6_most_3 3 rfl rfl)
theorem dX6_most_75 : decode cX6_most 75 = .ok (.goto 4, 3) := dk_167 0 4 (dk_at dksX6_most_3 4 rfl rfl)
theorem dX6_most_78 : decode cX6_most 78 = .ok (.lconst 0, 1) := dk_9 (dk_at dksX6_most_3 7 rfl rfl)
theorem dX6_most_79 : decode cX6_most 79 = .ok (.lastore, 1) := dk_80 (dk_at dksX6_most_3 8 rfl rfl)
theorem dX6_most_80 : decode cX6_most 80 = .ok (.iinc 6 1, 3) := dk_132 6 1 (dk_at dksX6_most_3 9 rfl rfl)
theorem dX6_most_83 : decode cX6_most 83 = .ok (.goto (-27), 3) := dk_167 255 229 (dk_at dksX6_most_3 12 rfl rfl)
theorem dX6_most_86 : decode cX6_most 86 = .ok (.iconst 0, 1) := dk_3 (dk_at dksX6_most_3 15 rfl rfl)
theorem dX6_most_87 : decode cX6_most 87 = .ok (.istore 6, 2) := dk_54 6 (dk_at dksX6_most_3 16 rfl rfl)
theorem dX6_most_89 : decode cX6_most 89 = .ok (.iload 6, 2) := dk_21 6 (dk_at dksX6_most_3 18 rfl rfl)
theorem dX6_most_91 : decode cX6_most 91 = .ok (.aload_n 0, 1) := dk_42 (dk_at dksX6_most_3 20 rfl rfl)
theorem dX6_most_92 : decode cX6_most 92 = .ok (.getfield 303, 3) := dk_180 1 47 (dk_at dksX6_most_3 21 rfl rfl)
theorem dX6_most_95 : decode cX6_most 95 = .ok (.getfield 241, 3) := dk_180 0 241 (dk_at dksX6_most_4 0 rfl rfl)
theorem dX6_most_98 : decode cX6_most 98 = .ok (.if_icmp .ge 95, 3) := dk_162 0 95 (dk_at dksX6_most_4 3 rfl rfl)
theorem dX6_most_101 : decode cX6_most 101 = .ok (.aload_n 0, 1) := dk_42 (dk_at dksX6_most_4 6 rfl rfl)
theorem dX6_most_102 : decode cX6_most 102 = .ok (.aload_n 0, 1) := dk_42 (dk_at dksX6_most_4 7 rfl rfl)
theorem dX6_most_103 : decode cX6_most 103 = .ok (.getfield 303, 3) := dk_180 1 47 (dk_at dksX6_most_4 8 rfl rfl)
theorem dX6_most_106 : decode cX6_most 106 = .ok (.getfield 263, 3) := dk_180 1 7 (dk_at dksX6_most_4 11 rfl rfl)
theorem dX6_most_109 : decode cX6_most 109 = .ok (.iload 6, 2) := dk_21 6 (dk_at dksX6_most_4 14 rfl rfl)
theorem dX6_most_111 : decode cX6_most 111 = .ok (.iaload, 1) := dk_46 (dk_at dksX6_most_4 16 rfl rfl)
theorem dX6_most_112 : decode cX6_most 112 = .ok (.iload 6, 2) := dk_21 6 (dk_at dksX6_most_4 17 rfl rfl)
theorem dX6_most_114 : decode cX6_most 114 = .ok (.iload_n 2, 1) := dk_28 (dk_at dksX6_most_4 19 rfl rfl)
theorem dX6_most_115 : decode cX6_most 115 = .ok (.invokevirtual 447, 3) := dk_182 1 191 (dk_at dksX6_most_4 20 rfl rfl)
theorem dX6_most_118 : decode cX6_most 118 = .ok (.istore 7, 2) := dk_54 7 (dk_at dksX6_most_5 0 rfl rfl)
theorem dX6_most_120 : decode cX6_most 120 = .ok (.bipush 6, 2) := dk_16 6 (dk_at dksX6_most_5 2 rfl rfl)
theorem dX6_most_122 : decode cX6_most 122 = .ok (.istore 8, 2) := dk_54 8 (dk_at dksX6_most_5 4 rfl rfl)
theorem dX6_most_124 : decode cX6_most 124 = .ok (.iload 8, 2) := dk_21 8 (dk_at dksX6_most_5 6 rfl rfl)
theorem dX6_most_126 : decode cX6_most 126 = .ok (.ifCond .lt 53, 3) := dk_155 0 53 (dk_at dksX6_most_5 8 rfl rfl)
theorem dX6_most_129 : decode cX6_most 129 = .ok (.aload_n 0, 1) := dk_42 (dk_at dksX6_most_5 11 rfl rfl)
theorem dX6_most_130 : decode cX6_most 130 = .ok (.getfield 45, 3) := dk_180 0 45 (dk_at dksX6_most_5 12 rfl rfl)
theorem dX6_most_133 : decode cX6_most 133 = .ok (.iload 8, 2) := dk_21 8 (dk_at dksX6_most_5 15 rfl rfl)
theorem dX6_most_135 : decode cX6_most 135 = .ok (.aload_n 0, 1) := dk_42 (dk_at dksX6_most_5 17 rfl rfl)
theorem dX6_most_136 : decode cX6_most 136 = .ok (.getfield 45, 3) := dk_180 0 45 (dk_at dksX6_most_5 18 rfl rfl)
theorem dX6_most_139 : decode cX6_most 139 = .ok (.iload 8, 2) := dk_21 8 (dk_at dksX6_most_5 21 rfl rfl)
theorem dX6_most_141 : decode cX6_most 141 = .ok (.laload, 1) := dk_47 (dk_at dksX6_most_5 23 rfl rfl)
theorem dX6_most_142 : decode cX6_most 142 = .ok (.bipush 100, 2) := dk_16 100 (dk_at dksX6_most_6 0 rfl rfl)
theorem dX6_most_144 : decode cX6_most 144 = .ok (.iload 7, 2) := dk_21 7 (dk_at dksX6_most_6 2 rfl rfl)
theorem dX6_most_146 : decode cX6_most 146 = .ok (.isub, 1) := dk_100 (dk_at dksX6_most_6 4 rfl rfl)
theorem dX6_most_147 : decode cX6_most 147 = .ok (.i2l, 1) := dk_133 (dk_at dksX6_most_6 5 rfl rfl)
theorem dX6_most_148 : decode cX6_most 148 = .ok (.lmul, 1) := dk_105 (dk_at dksX6_most_6 6 rfl rfl)
theorem dX6_most_149 : decode cX6_most 149 = .ok (.iload 8, 2) := dk_21 8 (dk_at dksX6_most_6 7 rfl rfl)
theorem dX6_most_151 : decode cX6_most 151 = .ok (.ifCond .le 19, 3) := dk_158 0 19 (dk_at dksX6_most_6 9 rfl rfl)
theorem dX6_most_154 : decode cX6_most 154 = .ok (.aload_n 0, 1) := dk_42 (dk_at dksX6_most_6 12 rfl rfl)
theorem dX6_most_155 : decode cX6_most 155 = .ok (.getfield 45, 3) := dk_180 0 45 (dk_at dksX6_most_6 13 rfl rfl)
theorem dX6_most_158 : decode cX6_most 158 = .ok (.iload 8, 2) := dk_21 8 (dk_at dksX6_most_6 16 rfl rfl)
theorem dX6_most_160 : decode cX6_most 160 = .ok (.iconst 1, 1) := dk_4 (dk_at dksX6_most_6 18 rfl rfl)
theorem dX6_most_161 : decode cX6_most 161 = .ok (.isub, 1) := dk_100 (dk_at dksX6_most_6 19 rfl rfl)
theorem dX6_most_162 : decode cX6_most 162 = .ok (.laload, 1) := dk_47 (dk_at dksX6_most_6 20 rfl rfl)
theorem dX6_most_163 : decode cX6_most 163 = .ok (.iload 7, 2) := dk_21 7 (dk_at dksX6_most_6 21 rfl rfl)
theorem dX6_most_165 : decode cX6_most 165 = .ok (.i2l, 1) := dk_133 (dk_at dksX6_most_6 23 rfl rfl)
theorem dX6_most_166 : decode cX6_most 166 = .ok (.lmul, 1) := dk_105 (dk_at dksX6_most_7 0 rfl rfl)
theorem dX6_most_167 : decode cX6_most 167 = .ok (.goto 4, 3) := dk_167 0 4 (dk_at dksX6_most_7 1 rfl rfl)
theorem dX6_most_170 : decode cX6_most 170 = .ok (.lconst 0, 1) := dk_9 (dk_at dksX6_most_7 4 rfl rfl)
theorem dX6_most_171 : decode cX6_most 171 = .ok (.ladd, 1) := dk_97 (dk_at dksX6_most_7 5 rfl rfl)
theorem dX6_most_172 : decode cX6_most 172 = .ok (.lastore, 1) := dk_80 (dk_at dksX6_most_7 6 rfl rfl)
theorem dX6_most_173 : decode cX6_most 173 = .ok (.iinc 8 (-1), 3) := dk_132 8 255 (dk_at dksX6_most_7 7 rfl rfl)
theorem dX6_most_176 : decode cX6_most 176 = .ok (.goto (-52), 3) := dk_167 255 204 (dk_at dksX6_most_7 10 rfl rfl)
theorem dX6_most_179 : decode cX6_most 179 = .ok (.lload 4, 2) := dk_22 4 (dk_at dksX6_most_7 13 rfl rfl)
theorem dX6_most_181 : decode cX6_most 181 = .ok (.ldc2_w 450, 3) := dk_20 1 194 (dk_at dksX6_most_7 15 rfl rfl)
theorem dX6_most_184 : decode cX6_most 184 = .ok (.lmul, 1) := dk_105 (dk_at dksX6_most_7 18 rfl rfl)
theorem dX6_most_185 : decode cX6_most 185 = .ok (.lstore 4, 2) := dk_55 4 (dk_at dksX6_most_7 19 rfl rfl)
theorem dX6_most_187 : decode cX6_most 187 = .ok (.iinc 6 1, 3) := dk_132 6 1 (dk_at dksX6_most_7 21 rfl rfl)
theorem dX6_most_190 : decode cX6_most 190 = .ok (.goto (-101), 3) := dk_167 255 155 (dk_at dksX6_most_8 0 rfl rfl)
theorem dX6_most_193 : decode cX6_most 193 = .ok (.lconst 0, 1) := dk_9 (dk_at dksX6_most_8 3 rfl rfl)
theorem dX6_most_194 : decode cX6_most 194 = .ok (.lstore 6, 2) := dk_55 6 (dk_at dksX6_most_8 4 rfl rfl)
theorem dX6_most_196 : decode cX6_most 196 = .ok (.iload_n 1, 1) := dk_27 (dk_at dksX6_most_8 6 rfl rfl)
theorem dX6_most_197 : decode cX6_most 197 = .ok (.istore 8, 2) := dk_54 8 (dk_at dksX6_most_8 7 rfl rfl)
theorem dX6_most_199 : decode cX6_most 199 = .ok (.iload 8, 2) := dk_21 8 (dk_at dksX6_most_8 9 rfl rfl)
theorem dX6_most_201 : decode cX6_most 201 = .ok (.bipush 6, 2) := dk_16 6 (dk_at dksX6_most_8 11 rfl rfl)
theorem dX6_most_203 : decode cX6_most 203 = .ok (.if_icmp .gt 21, 3) := dk_163 0 21 (dk_at dksX6_most_8 13 rfl rfl)
theorem dX6_most_206 : decode cX6_most 206 = .ok (.lload 6, 2) := dk_22 6 (dk_at dksX6_most_8 16 rfl rfl)
theorem dX6_most_208 : decode cX6_most 208 = .ok (.aload_n 0, 1) := dk_42 (dk_at dksX6_most_8 18 rfl rfl)
theorem dX6_most_209 : decode cX6_most 209 = .ok (.getfield 45, 3) := dk_180 0 45 (dk_at dksX6_most_8 19 rfl rfl)
theorem dX6_most_212 : decode cX6_most 212 = .ok (.iload 8, 2) := dk_21 8 (dk_at dksX6_most_8 22 rfl rfl)
theorem dX6_most_214 : decode cX6_most 214 = .ok (.laload, 1) := dk_47 (dk_at dksX6_most_9 0 rfl rfl)
theorem dX6_most_215 : decode cX6_most 215 = .ok (.ladd, 1) := dk_97 (dk_at dksX6_most_9 1 rfl rfl)
theorem dX6_most_216 : decode cX6_most 216 = .ok (.lstore 6, 2) := dk_55 6 (dk_at dksX6_most_9 2 rfl rfl)
theorem dX6_most_218 : decode cX6_most 218 = .ok (.iinc 8 1, 3) := dk_132 8 1 (dk_at dksX6_most_9 4 rfl rfl)
theorem dX6_most_221 : decode cX6_most 221 = .ok (.goto (-22), 3) := dk_167 255 234 (dk_at dksX6_most_9 7 rfl rfl)
theorem dX6_most_224 : decode cX6_most 224 = .ok (.aload_n 0, 1) := dk_42 (dk_at dksX6_most_9 10 rfl rfl)
theorem dX6_most_225 : decode cX6_most 225 = .ok (.lload 6, 2) := dk_22 6 (dk_at dksX6_most_9 11 rfl rfl)
theorem dX6_most_227 : decode cX6_most 227 = .ok (.lload 4, 2) := dk_22 4 (dk_at dksX6_most_9 13 rfl rfl)
theorem dX6_most_229 : decode cX6_most 229 = .ok (.iload_n 3, 1) := dk_29 (dk_at dksX6_most_9 15 rfl rfl)
theorem dX6_most_230 : decode cX6_most 230 = .ok (.invokevirtual 452, 3) := dk_182 1 196 (dk_at dksX6_most_9 16 rfl rfl)
theorem dX6_most_233 : decode cX6_most 233 = .ok (.lreturn, 1) := dk_173 (dk_at dksX6_most_9 19 rfl rfl)
abbrev cX6_mean : ByteArray := prog_15_method_123_code
def yX6_mean : MethodName := ⟨RX6, "mean", "(IIZ)J"⟩
def dkwX6_mean_3 : List UInt8 := [167, 255, 227, 42, 22, 5, 20, 1, 194, 29, 182, 1, 196, 173]
abbrev dktX6_mean_3 : List UInt8 := dkwX6_mean_3 ++ []
def dkwX6_mean_2 : List UInt8 := [180, 0, 241, 162, 0, 23, 22, 5, 42, 27, 21, 7, 28, 182, 1, 191, 133, 97, 55, 5, 132, 7, 1]
abbrev dktX6_mean_2 : List UInt8 := dkwX6_mean_2 ++ dktX6_mean_3
def dkwX6_mean_1 : List UInt8 := [21, 4, 182, 0, 55, 133, 173, 42, 182, 1, 86, 9, 55, 5, 3, 54, 7, 21, 7, 42, 180, 1, 47]
abbrev dktX6_mean_1 : List UInt8 := dkwX6_mean_1 ++ dktX6_mean_2
def dkwX6_mean_0 : List UInt8 := [42, 3, 181, 0, 49, 42, 42, 27, 182, 1, 83, 28, 182, 1, 98, 54, 4, 21, 4, 158, 0, 11, 42]
abbrev dktX6_mean_0 : List UInt8 := dkwX6_mean_0 ++ dktX6_mean_1
theorem dksX6_mean_0 : cX6_mean.data.toList.drop 0 = dktX6_mean_0 := by decide +kernel
theorem dksX6_mean_1 : cX6_mean.data.toList.drop 23 = dktX6_mean_1 := dk_seg dksX6_mean_0 23 rfl rfl
theorem dksX6_mean_2 : cX6_mean.data.toList.drop 46 = dktX6_mean_2 := dk_seg dksX6_mean_1 23 rfl rfl
theorem dksX6_mean_3 : cX6_mean.data.toList.drop 69 = dktX6_mean_3 := dk_seg dksX6_mean_2 23 rfl rfl
theorem dX6_mean_0 : decode cX6_mean 0 = .ok (.aload_n 0, 1) := dk_42 (dk_at dksX6_mean_0 0 rfl rfl)
theorem dX6_mean_1 : decode cX6_mean 1 = .ok (.iconst 0, 1) := dk_3 (dk_at dksX6_mean_0 1 rfl rfl)
theorem dX6_mean_2 : decode cX6_mean 2 = .ok (.putfield 49, 3) := dk_181 0 49 (dk_at dksX6_mean_0 2 rfl rfl)
theorem dX6_mean_5 : decode cX6_mean 5 = .ok (.aload_n 0, 1) := dk_42 (dk_at dksX6_mean_0 5 rfl rfl)
theorem dX6_mean_6 : decode cX6_mean 6 = .ok (.aload_n 0, 1) := dk_42 (dk_at dksX6_mean_0 6 rfl rfl)
theorem dX6_mean_7 : decode cX6_mean 7 = .ok (.iload_n 1, 1) := dk_27 (dk_at dksX6_mean_0 7 rfl rfl)
theorem dX6_mean_8 : decode cX6_mean 8 = .ok (.invokevirtual 339, 3) := dk_182 1 83 (dk_at dksX6_mean_0 8 rfl rfl)
theorem dX6_mean_11 : decode cX6_mean 11 = .ok (.iload_n 2, 1) := dk_28 (dk_at dksX6_mean_0 11 rfl rfl)
theorem dX6_mean_12 : decode cX6_mean 12 = .ok (.invokevirtual 354, 3) := dk_182 1 98 (dk_at dksX6_mean_0 12 rfl rfl)
theorem dX6_mean_15 : decode cX6_mean 15 = .ok (.istore 4, 2) := dk_54 4 (dk_at dksX6_mean_0 15 rfl rfl)
theorem dX6_mean_17 : decode cX6_mean 17 = .ok (.iload 4, 2) := dk_21 4 (dk_at dksX6_mean_0 17 rfl rfl)
theorem dX6_mean_19 : decode cX6_mean 19 = .ok (.ifCond .le 11, 3) := dk_158 0 11 (dk_at dksX6_mean_0 19 rfl rfl)
theorem dX6_mean_22 : decode cX6_mean 22 = .ok (.aload_n 0, 1) := dk_42 (dk_at dksX6_mean_0 22 rfl rfl)
theorem dX6_mean_23 : decode cX6_mean 23 = .ok (.iload 4, 2) := dk_21 4 (dk_at dksX6_mean_1 0 rfl rfl)
theorem dX6_mean_25 : decode cX6_mean 25 = .ok (.invokevirtual 55, 3) := dk_182 0 55 (dk_at dksX6_mean_1 2 rfl rfl)
theorem dX6_mean_28 : decode cX6_mean 28 = .ok (.i2l, 1) := dk_133 (dk_at dksX6_mean_1 5 rfl rfl)
theorem dX6_mean_29 : decode cX6_mean 29 = .ok (.lreturn, 1) := dk_173 (dk_at dksX6_mean_1 6 rfl rfl)
theorem dX6_mean_30 : decode cX6_mean 30 = .ok (.aload_n 0, 1) := dk_42 (dk_at dksX6_mean_1 7 rfl rfl)
theorem dX6_mean_31 : decode cX6_mean 31 = .ok (.invokevirtual 342, 3) := dk_182 1 86 (dk_at dksX6_mean_1 8 rfl rfl)
theorem dX6_mean_34 : decode cX6_mean 34 = .ok (.lconst 0, 1) := dk_9 (dk_at dksX6_mean_1 11 rfl rfl)
theorem dX6_mean_35 : decode cX6_mean 35 = .ok (.lstore 5, 2) := dk_55 5 (dk_at dksX6_mean_1 12 rfl rfl)
theorem dX6_mean_37 : decode cX6_mean 37 = .ok (.iconst 0, 1) := dk_3 (dk_at dksX6_mean_1 14 rfl rfl)
theorem dX6_mean_38 : decode cX6_mean 38 = .ok (.istore 7, 2) := dk_54 7 (dk_at dksX6_mean_1 15 rfl rfl)
theorem dX6_mean_40 : decode cX6_mean 40 = .ok (.iload 7, 2) := dk_21 7 (dk_at dksX6_mean_1 17 rfl rfl)
theorem dX6_mean_42 : decode cX6_mean 42 = .ok (.aload_n 0, 1) := dk_42 (dk_at dksX6_mean_1 19 rfl rfl)
theorem dX6_mean_43 : decode cX6_mean 43 = .ok (.getfield 303, 3) := dk_180 1 47 (dk_at dksX6_mean_1 20 rfl rfl)
theorem dX6_mean_46 : decode cX6_mean 46 = .ok (.getfield 241, 3) := dk_180 0 241 (dk_at dksX6_mean_2 0 rfl rfl)
theorem dX6_mean_49 : decode cX6_mean 49 = .ok (.if_icmp .ge 23, 3) := dk_162 0 23 (dk_at dksX6_mean_2 3 rfl rfl)
theorem dX6_mean_52 : decode cX6_mean 52 = .ok (.lload 5, 2) := dk_22 5 (dk_at dksX6_mean_2 6 rfl rfl)
theorem dX6_mean_54 : decode cX6_mean 54 = .ok (.aload_n 0, 1) := dk_42 (dk_at dksX6_mean_2 8 rfl rfl)
theorem dX6_mean_55 : decode cX6_mean 55 = .ok (.iload_n 1, 1) := dk_27 (dk_at dksX6_mean_2 9 rfl rfl)
theorem dX6_mean_56 : decode cX6_mean 56 = .ok (.iload 7, 2) := dk_21 7 (dk_at dksX6_mean_2 10 rfl rfl)
theorem dX6_mean_58 : decode cX6_mean 58 = .ok (.iload_n 2, 1) := dk_28 (dk_at dksX6_mean_2 12 rfl rfl)
theorem dX6_mean_59 : decode cX6_mean 59 = .ok (.invokevirtual 447, 3) := dk_182 1 191 (dk_at dksX6_mean_2 13 rfl rfl)
theorem dX6_mean_62 : decode cX6_mean 62 = .ok (.i2l, 1) := dk_133 (dk_at dksX6_mean_2 16 rfl rfl)
theorem dX6_mean_63 : decode cX6_mean 63 = .ok (.ladd, 1) := dk_97 (dk_at dksX6_mean_2 17 rfl rfl)
theorem dX6_mean_64 : decode cX6_mean 64 = .ok (.lstore 5, 2) := dk_55 5 (dk_at dksX6_mean_2 18 rfl rfl)
theorem dX6_mean_66 : decode cX6_mean 66 = .ok (.iinc 7 1, 3) := dk_132 7 1 (dk_at dksX6_mean_2 20 rfl rfl)
theorem dX6_mean_69 : decode cX6_mean 69 = .ok (.goto (-29), 3) := dk_167 255 227 (dk_at dksX6_mean_3 0 rfl rfl)
theorem dX6_mean_72 : decode cX6_mean 72 = .ok (.aload_n 0, 1) := dk_42 (dk_at dksX6_mean_3 3 rfl rfl)
theorem dX6_mean_73 : decode cX6_mean 73 = .ok (.lload 5, 2) := dk_22 5 (dk_at dksX6_mean_3 4 rfl rfl)
theorem dX6_mean_75 : decode cX6_mean 75 = .ok (.ldc2_w 450, 3) := dk_20 1 194 (dk_at dksX6_mean_3 6 rfl rfl)
theorem dX6_mean_78 : decode cX6_mean 78 = .ok (.iload_n 3, 1) := dk_29 (dk_at dksX6_mean_3 9 rfl rfl)
theorem dX6_mean_79 : decode cX6_mean 79 = .ok (.invokevirtual 452, 3) := dk_182 1 196 (dk_at dksX6_mean_3 10 rfl rfl)
theorem dX6_mean_82 : decode cX6_mean 82 = .ok (.lreturn, 1) := dk_173 (dk_at dksX6_mean_3 13 rfl rfl)
abbrev cX6_heardBy : ByteArray := prog_15_method_125_code
def yX6_heardBy : MethodName := ⟨RX6, "heardBy", "(III)I"⟩
def dkwX6_heardBy_4 : List UInt8 := [182, 1, 188, 182, 0, 59, 172]
abbrev dktX6_heardBy_4 : List UInt8 := dkwX6_heardBy_4 ++ []
def dkwX6_heardBy_3 : List UInt8 := [21, 5, 155, 0, 15, 42, 182, 1, 210, 54, 4, 132, 5, 255, 167, 255, 242, 42, 42, 27, 29, 21, 4]
abbrev dktX6_heardBy_3 : List UInt8 := dkwX6_heardBy_3 ++ dktX6_heardBy_4
def dkwX6_heardBy_2 : List UInt8 := [182, 1, 86, 42, 28, 181, 1, 202, 3, 54, 4, 29, 42, 180, 1, 47, 180, 0, 241, 104, 27, 96, 54, 5]
abbrev dktX6_heardBy_2 : List UInt8 := dkwX6_heardBy_2 ++ dktX6_heardBy_3
def dkwX6_heardBy_1 : List UInt8 := [184, 0, 128, 153, 0, 13, 29, 3, 16, 99, 184, 0, 128, 154, 0, 9, 42, 5, 182, 0, 55, 172, 42]
abbrev dktX6_heardBy_1 : List UInt8 := dkwX6_heardBy_1 ++ dktX6_heardBy_2
def dkwX6_heardBy_0 : List UInt8 := [42, 3, 181, 0, 49, 42, 27, 182, 1, 92, 154, 0, 9, 42, 4, 182, 0, 55, 172, 28, 3, 19, 1, 209]
abbrev dktX6_heardBy_0 : List UInt8 := dkwX6_heardBy_0 ++ dktX6_heardBy_1
theorem dksX6_heardBy_0 : cX6_heardBy.data.toList.drop 0 = dktX6_heardBy_0 := by decide +kernel
theorem dksX6_heardBy_1 : cX6_heardBy.data.toList.drop 24 = dktX6_heardBy_1 := dk_seg dksX6_heardBy_0 24 rfl rfl
theorem dksX6_heardBy_2 : cX6_heardBy.data.toList.drop 47 = dktX6_heardBy_2 := dk_seg dksX6_heardBy_1 23 rfl rfl
theorem dksX6_heardBy_3 : cX6_heardBy.data.toList.drop 71 = dktX6_heardBy_3 := dk_seg dksX6_heardBy_2 24 rfl rfl
theorem dksX6_heardBy_4 : cX6_heardBy.data.toList.drop 94 = dktX6_heardBy_4 := dk_seg dksX6_heardBy_3 23 rfl rfl
theorem dX6_heardBy_0 : decode cX6_heardBy 0 = .ok (.aload_n 0, 1) := dk_42 (dk_at dksX6_heardBy_0 0 rfl rfl)
theorem dX6_heardBy_1 : decode cX6_heardBy 1 = .ok (.iconst 0, 1) := dk_3 (dk_at dksX6_heardBy_0 1 rfl rfl)
theorem dX6_heardBy_2 : decode cX6_heardBy 2 = .ok (.putfield 49, 3) := dk_181 0 49 (dk_at dksX6_heardBy_0 2 rfl rfl)
theorem dX6_heardBy_5 : decode cX6_heardBy 5 = .ok (.aload_n 0, 1) := dk_42 (dk_at dksX6_heardBy_0 5 rfl rfl)
theorem dX6_heardBy_6 : decode cX6_heardBy 6 = .ok (.iload_n 1, 1) := dk_27 (dk_at dksX6_heardBy_0 6 rfl rfl)
theorem dX6_heardBy_7 : decode cX6_heardBy 7 = .ok (.invokevirtual 348, 3) := dk_182 1 92 (dk_at dksX6_heardBy_0 7 rfl rfl)
theorem dX6_heardBy_10 : decode cX6_heardBy 10 = .ok (.ifCond .ne 9, 3) := dk_154 0 9 (dk_at dksX6_heardBy_0 10 rfl rfl)
theorem dX6_heardBy_13 : decode cX6_heardBy 13 = .ok (.aload_n 0, 1) := dk_42 (dk_at dksX6_heardBy_0 13 rfl rfl)
theorem dX6_heardBy_14 : decode cX6_heardBy 14 = .ok (.iconst 1, 1) := dk_4 (dk_at dksX6_heardBy_0 14 rfl rfl)
theorem dX6_heardBy_15 : decode cX6_heardBy 15 = .ok (.invokevirtual 55, 3) := dk_182 0 55 (dk_at dksX6_heardBy_0 15 rfl rfl)
theorem dX6_heardBy_18 : decode cX6_heardBy 18 = .ok (.ireturn, 1) := dk_172 (dk_at dksX6_heardBy_0 18 rfl rfl)
theorem dX6_heardBy_19 : decode cX6_heardBy 19 = .ok (.iload_n 2, 1) := dk_28 (dk_at dksX6_heardBy_0 19 rfl rfl)
theorem dX6_heardBy_20 : decode cX6_heardBy 20 = .ok (.iconst 0, 1) := dk_3 (dk_at dksX6_heardBy_0 20 rfl rfl)
theorem dX6_heardBy_21 : decode cX6_heardBy 21 = .ok (.ldc_w 465, 3) := dk_19 1 209 (dk_at dksX6_heardBy_0 21 rfl rfl)
theorem dX6_heardBy_24 : decode cX6_heardBy 24 = .ok (.invokestatic 128, 3) := dk_184 0 128 (dk_at dksX6_heardBy_1 0 rfl rfl)
theorem dX6_heardBy_27 : decode cX6_heardBy 27 = .ok (.ifCond .eq 13, 3) := dk_153 0 13 (dk_at dksX6_heardBy_1 3 rfl rfl)
theorem dX6_heardBy_30 : decode cX6_heardBy 30 = .ok (.iload_n 3, 1) := dk_29 (dk_at dksX6_heardBy_1 6 rfl rfl)
theorem dX6_heardBy_31 : decode cX6_heardBy 31 = .ok (.iconst 0, 1) := dk_3 (dk_at dksX6_heardBy_1 7 rfl rfl)
theorem dX6_heardBy_32 : decode cX6_heardBy 32 = .ok (.bipush 99, 2) := dk_16 99 (dk_at dksX6_heardBy_1 8 rfl rfl)
theorem dX6_heardBy_34 : decode cX6_heardBy 34 = .ok (.invokestatic 128, 3) := dk_184 0 128 (dk_at dksX6_heardBy_1 10 rfl rfl)
theorem dX6_heardBy_37 : decode cX6_heardBy 37 = .ok (.ifCond .ne 9, 3) := dk_154 0 9 (dk_at dksX6_heardBy_1 13 rfl rfl)
theorem dX6_heardBy_40 : decode cX6_heardBy 40 = .ok (.aload_n 0, 1) := dk_42 (dk_at dksX6_heardBy_1 16 rfl rfl)
theorem dX6_heardBy_41 : decode cX6_heardBy 41 = .ok (.iconst 2, 1) := dk_5 (dk_at dksX6_heardBy_1 17 rfl rfl)
theorem dX6_heardBy_42 : decode cX6_heardBy 42 = .ok (.invokevirtual 55, 3) := dk_182 0 55 (dk_at dksX6_heardBy_1 18 rfl rfl)
theorem dX6_heardBy_45 : decode cX6_heardBy 45 = .ok (.ireturn, 1) := dk_172 (dk_at dksX6_heardBy_1 21 rfl rfl)
theorem dX6_heardBy_46 : decode cX6_heardBy 46 = .ok (.aload_n 0, 1) := dk_42 (dk_at dksX6_heardBy_1 22 rfl rfl)
theorem dX6_heardBy_47 : decode cX6_heardBy 47 = .ok (.invokevirtual 342, 3) := dk_182 1 86 (dk_at dksX6_heardBy_2 0 rfl rfl)
theorem dX6_heardBy_50 : decode cX6_heardBy 50 = .ok (.aload_n 0, 1) := dk_42 (dk_at dksX6_heardBy_2 3 rfl rfl)
theorem dX6_heardBy_51 : decode cX6_heardBy 51 = .ok (.iload_n 2, 1) := dk_28 (dk_at dksX6_heardBy_2 4 rfl rfl)
theorem dX6_heardBy_52 : decode cX6_heardBy 52 = .ok (.putfield 458, 3) := dk_181 1 202 (dk_at dksX6_heardBy_2 5 rfl rfl)
theorem dX6_heardBy_55 : decode cX6_heardBy 55 = .ok (.iconst 0, 1) := dk_3 (dk_at dksX6_heardBy_2 8 rfl rfl)
theorem dX6_heardBy_56 : decode cX6_heardBy 56 = .ok (.istore 4, 2) := dk_54 4 (dk_at dksX6_heardBy_2 9 rfl rfl)
theorem dX6_heardBy_58 : decode cX6_heardBy 58 = .ok (.iload_n 3, 1) := dk_29 (dk_at dksX6_heardBy_2 11 rfl rfl)
theorem dX6_heardBy_59 : decode cX6_heardBy 59 = .ok (.aload_n 0, 1) := dk_42 (dk_at dksX6_heardBy_2 12 rfl rfl)
theorem dX6_heardBy_60 : decode cX6_heardBy 60 = .ok (.getfield 303, 3) := dk_180 1 47 (dk_at dksX6_heardBy_2 13 rfl rfl)
theorem dX6_heardBy_63 : decode cX6_heardBy 63 = .ok (.getfield 241, 3) := dk_180 0 241 (dk_at dksX6_heardBy_2 16 rfl rfl)
theorem dX6_heardBy_66 : decode cX6_heardBy 66 = .ok (.imul, 1) := dk_104 (dk_at dksX6_heardBy_2 19 rfl rfl)
theorem dX6_heardBy_67 : decode cX6_heardBy 67 = .ok (.iload_n 1, 1) := dk_27 (dk_at dksX6_heardBy_2 20 rfl rfl)
theorem dX6_heardBy_68 : decode cX6_heardBy 68 = .ok (.iadd, 1) := dk_96 (dk_at dksX6_heardBy_2 21 rfl rfl)
theorem dX6_heardBy_69 : decode cX6_heardBy 69 = .ok (.istore 5, 2) := dk_54 5 (dk_at dksX6_heardBy_2 22 rfl rfl)
theorem dX6_heardBy_71 : decode cX6_heardBy 71 = .ok (.iload 5, 2) := dk_21 5 (dk_at dksX6_heardBy_3 0 rfl rfl)
theorem dX6_heardBy_73 : decode cX6_heardBy 73 = .ok (.ifCond .lt 15, 3) := dk_155 0 15 (dk_at dksX6_heardBy_3 2 rfl rfl)
theorem dX6_heardBy_76 : decode cX6_heardBy 76 = .ok (.aload_n 0, 1) := dk_42 (dk_at dksX6_heardBy_3 5 rfl rfl)
theorem dX6_heardBy_77 : decode cX6_heardBy 77 = .ok (.invokevirtual 466, 3) := dk_182 1 210 (dk_at dksX6_heardBy_3 6 rfl rfl)
theorem dX6_heardBy_80 : decode cX6_heardBy 80 = .ok (.istore 4, 2) := dk_54 4 (dk_at dksX6_heardBy_3 9 rfl rfl)
theorem dX6_heardBy_82 : decode cX6_heardBy 82 = .ok (.iinc 5 (-1), 3) := dk_132 5 255 (dk_at dksX6_heardBy_3 11 rfl rfl)
theorem dX6_heardBy_85 : decode cX6_heardBy 85 = .ok (.goto (-14), 3) := dk_167 255 242 (dk_at dksX6_heardBy_3 14 rfl rfl)
theorem dX6_heardBy_88 : decode cX6_heardBy 88 = .ok (.aload_n 0, 1) := dk_42 (dk_at dksX6_heardBy_3 17 rfl rfl)
theorem dX6_heardBy_89 : decode cX6_heardBy 89 = .ok (.aload_n 0, 1) := dk_42 (dk_at dksX6_heardBy_3 18 rfl rfl)
theorem dX6_heardBy_90 : decode cX6_heardBy 90 = .ok (.iload_n 1, 1) := dk_27 (dk_at dksX6_heardBy_3 19 rfl rfl)
theorem dX6_heardBy_91 : decode cX6_heardBy 91 = .ok (.iload_n 3, 1) := dk_29 (dk_at dksX6_heardBy_3 20 rfl rfl)
theorem dX6_heardBy_92 : decode cX6_heardBy 92 = .ok (.iload 4, 2) := dk_21 4 (dk_at dksX6_heardBy_3 21 rfl rfl)
theorem dX6_heardBy_94 : decode cX6_heardBy 94 = .ok (.invokevirtual 444, 3) := dk_182 1 188 (dk_at dksX6_heardBy_4 0 rfl rfl)
theorem dX6_heardBy_97 : decode cX6_heardBy 97 = .ok (.invokevirtual 59, 3) := dk_182 0 59 (dk_at dksX6_heardBy_4 3 rfl rfl)
theorem dX6_heardBy_100 : decode cX6_heardBy 100 = .ok (.ireturn, 1) := dk_172 (dk_at dksX6_heardBy_4 6 rfl rfl)
abbrev cX6_further : ByteArray := prog_15_method_124_code
def yX6_further : MethodName := ⟨RX6, "further", "()I"⟩
def dkwX6_further_1 : List UInt8 := [180, 1, 202, 16, 100, 112, 42, 180, 1, 47, 180, 0, 221, 162, 0, 7, 4, 167, 0, 4, 3, 172]
abbrev dktX6_further_1 : List UInt8 := dkwX6_further_1 ++ []
def dkwX6_further_0 : List UInt8 := [42, 20, 1, 200, 42, 180, 1, 202, 133, 105, 20, 1, 205, 97, 20, 1, 207, 113, 136, 181, 1, 202, 42]
abbrev dktX6_further_0 : List UInt8 := dkwX6_further_0 ++ dktX6_further_1
theorem dksX6_further_0 : cX6_further.data.toList.drop 0 = dktX6_further_0 := by decide +kernel
theorem dksX6_further_1 : cX6_further.data.toList.drop 23 = dktX6_further_1 := dk_seg dksX6_further_0 23 rfl rfl
theorem dX6_further_0 : decode cX6_further 0 = .ok (.aload_n 0, 1) := dk_42 (dk_at dksX6_further_0 0 rfl rfl)
theorem dX6_further_1 : decode cX6_further 1 = .ok (.ldc2_w 456, 3) := dk_20 1 200 (dk_at dksX6_further_0 1 rfl rfl)
theorem dX6_further_4 : decode cX6_further 4 = .ok (.aload_n 0, 1) := dk_42 (dk_at dksX6_further_0 4 rfl rfl)
theorem dX6_further_5 : decode cX6_further 5 = .ok (.getfield 458, 3) := dk_180 1 202 (dk_at dksX6_further_0 5 rfl rfl)
theorem dX6_further_8 : decode cX6_further 8 = .ok (.i2l, 1) := dk_133 (dk_at dksX6_further_0 8 rfl rfl)
theorem dX6_further_9 : decode cX6_further 9 = .ok (.lmul, 1) := dk_105 (dk_at dksX6_further_0 9 rfl rfl)
theorem dX6_further_10 : decode cX6_further 10 = .ok (.ldc2_w 461, 3) := dk_20 1 205 (dk_at dksX6_further_0 10 rfl rfl)
theorem dX6_further_13 : decode cX6_further 13 = .ok (.ladd, 1) := dk_97 (dk_at dksX6_further_0 13 rfl rfl)
theorem dX6_further_14 : decode cX6_further 14 = .ok (.ldc2_w 463, 3) := dk_20 1 207 (dk_at dksX6_further_0 14 rfl rfl)
theorem dX6_further_17 : decode cX6_further 17 = .ok (.lrem, 1) := dk_113 (dk_at dksX6_further_0 17 rfl rfl)
theorem dX6_further_18 : decode cX6_further 18 = .ok (.l2i, 1) := dk_136 (dk_at dksX6_further_0 18 rfl rfl)
theorem dX6_further_19 : decode cX6_further 19 = .ok (.putfield 458, 3) := dk_181 1 202 (dk_at dksX6_further_0 19 rfl rfl)
theorem dX6_further_22 : decode cX6_further 22 = .ok (.aload_n 0, 1) := dk_42 (dk_at dksX6_further_0 22 rfl rfl)
theorem dX6_further_23 : decode cX6_further 23 = .ok (.getfield 458, 3) := dk_180 1 202 (dk_at dksX6_further_1 0 rfl rfl)
theorem dX6_further_26 : decode cX6_further 26 = .ok (.bipush 100, 2) := dk_16 100 (dk_at dksX6_further_1 3 rfl rfl)
theorem dX6_further_28 : decode cX6_further 28 = .ok (.irem, 1) := dk_112 (dk_at dksX6_further_1 5 rfl rfl)
theorem dX6_further_29 : decode cX6_further 29 = .ok (.aload_n 0, 1) := dk_42 (dk_at dksX6_further_1 6 rfl rfl)
theorem dX6_further_30 : decode cX6_further 30 = .ok (.getfield 303, 3) := dk_180 1 47 (dk_at dksX6_further_1 7 rfl rfl)
theorem dX6_further_33 : decode cX6_further 33 = .ok (.getfield 221, 3) := dk_180 0 221 (dk_at dksX6_further_1 10 rfl rfl)
theorem dX6_further_36 : decode cX6_further 36 = .ok (.if_icmp .ge 7, 3) := dk_162 0 7 (dk_at dksX6_further_1 13 rfl rfl)
theorem dX6_further_39 : decode cX6_further 39 = .ok (.iconst 1, 1) := dk_4 (dk_at dksX6_further_1 16 rfl rfl)
theorem dX6_further_40 : decode cX6_further 40 = .ok (.goto 4, 3) := dk_167 0 4 (dk_at dksX6_further_1 17 rfl rfl)
theorem dX6_further_43 : decode cX6_further 43 = .ok (.iconst 0, 1) := dk_3 (dk_at dksX6_further_1 20 rfl rfl)
theorem dX6_further_44 : decode cX6_further 44 = .ok (.ireturn, 1) := dk_172 (dk_at dksX6_further_1 21 rfl rfl)
abbrev cX6_rights : ByteArray := prog_15_method_126_code
def yX6_rights : MethodName := ⟨RX6, "rights", "(II)I"⟩
def dkwX6_rights_5 : List UInt8 := [167, 255, 208, 132, 4, 1, 167, 255, 193, 42, 29, 182, 0, 59, 172]
abbrev dktX6_rights_5 : List UInt8 := dkwX6_rights_5 ++ []
def dkwX6_rights_4 : List UInt8 := [180, 1, 47, 180, 1, 7, 21, 5, 46, 160, 0, 7, 4, 167, 0, 4, 3, 96, 62, 132, 5, 1]
abbrev dktX6_rights_4 : List UInt8 := dkwX6_rights_4 ++ dktX6_rights_5
def dkwX6_rights_3 : List UInt8 := [42, 180, 1, 47, 180, 0, 241, 162, 0, 42, 29, 42, 21, 5, 21, 4, 42, 182, 1, 210, 182, 1, 188, 42]
abbrev dktX6_rights_3 : List UInt8 := dkwX6_rights_3 ++ dktX6_rights_4
def dkwX6_rights_2 : List UInt8 := [182, 1, 86, 42, 27, 181, 1, 202, 3, 62, 3, 54, 4, 21, 4, 28, 162, 0, 63, 3, 54, 5, 21, 5]
abbrev dktX6_rights_2 : List UInt8 := dkwX6_rights_2 ++ dktX6_rights_3
def dkwX6_rights_1 : List UInt8 := [184, 0, 128, 153, 0, 13, 28, 3, 16, 99, 184, 0, 128, 154, 0, 9, 42, 5, 182, 0, 55, 172, 42]
abbrev dktX6_rights_1 : List UInt8 := dkwX6_rights_1 ++ dktX6_rights_2
def dkwX6_rights_0 : List UInt8 := [42, 3, 181, 0, 49, 42, 180, 1, 47, 199, 0, 9, 42, 4, 182, 0, 55, 172, 27, 3, 19, 1, 209]
abbrev dktX6_rights_0 : List UInt8 := dkwX6_rights_0 ++ dktX6_rights_1
theorem dksX6_rights_0 : cX6_rights.data.toList.drop 0 = dktX6_rights_0 := by decide +kernel
theorem dksX6_rights_1 : cX6_rights.data.toList.drop 23 = dktX6_rights_1 := dk_seg dksX6_rights_0 23 rfl rfl
theorem dksX6_rights_2 : cX6_rights.data.toList.drop 46 = dktX6_rights_2 := dk_seg dksX6_rights_1 23 rfl rfl
theorem dksX6_rights_3 : cX6_rights.data.toList.drop 70 = dktX6_rights_3 := dk_seg dksX6_rights_2 24 rfl rfl
theorem dksX6_rights_4 : cX6_rights.data.toList.drop 94 = dktX6_rights_4 := dk_seg dksX6_rights_3 24 rfl rfl
theorem dksX6_rights_5 : cX6_rights.data.toList.drop 116 = dktX6_rights_5 := dk_seg dksX6_rights_4 22 rfl rfl
theorem dX6_rights_0 : decode cX6_rights 0 = .ok (.aload_n 0, 1) := dk_42 (dk_at dksX6_rights_0 0 rfl rfl)
theorem dX6_rights_1 : decode cX6_rights 1 = .ok (.iconst 0, 1) := dk_3 (dk_at dksX6_rights_0 1 rfl rfl)
theorem dX6_rights_2 : decode cX6_rights 2 = .ok (.putfield 49, 3) := dk_181 0 49 (dk_at dksX6_rights_0 2 rfl rfl)
theorem dX6_rights_5 : decode cX6_rights 5 = .ok (.aload_n 0, 1) := dk_42 (dk_at dksX6_rights_0 5 rfl rfl)
theorem dX6_rights_6 : decode cX6_rights 6 = .ok (.getfield 303, 3) := dk_180 1 47 (dk_at dksX6_rights_0 6 rfl rfl)
theorem dX6_rights_9 : decode cX6_rights 9 = .ok (.ifnonnull 9, 3) := dk_199 0 9 (dk_at dksX6_rights_0 9 rfl rfl)
theorem dX6_rights_12 : decode cX6_rights 12 = .ok (.aload_n 0, 1) := dk_42 (dk_at dksX6_rights_0 12 rfl rfl)
theorem dX6_rights_13 : decode cX6_rights 13 = .ok (.iconst 1, 1) := dk_4 (dk_at dksX6_rights_0 13 rfl rfl)
theorem dX6_rights_14 : decode cX6_rights 14 = .ok (.invokevirtual 55, 3) := dk_182 0 55 (dk_at dksX6_rights_0 14 rfl rfl)
theorem dX6_rights_17 : decode cX6_rights 17 = .ok (.ireturn, 1) := dk_172 (dk_at dksX6_rights_0 17 rfl rfl)
theorem dX6_rights_18 : decode cX6_rights 18 = .ok (.iload_n 1, 1) := dk_27 (dk_at dksX6_rights_0 18 rfl rfl)
theorem dX6_rights_19 : decode cX6_rights 19 = .ok (.iconst 0, 1) := dk_3 (dk_at dksX6_rights_0 19 rfl rfl)
theorem dX6_rights_20 : decode cX6_rights 20 = .ok (.ldc_w 465, 3) := dk_19 1 209 (dk_at dksX6_rights_0 20 rfl rfl)
theorem dX6_rights_23 : decode cX6_rights 23 = .ok (.invokestatic 128, 3) := dk_184 0 128 (dk_at dksX6_rights_1 0 rfl rfl)
theorem dX6_rights_26 : decode cX6_rights 26 = .ok (.ifCond .eq 13, 3) := dk_153 0 13 (dk_at dksX6_rights_1 3 rfl rfl)
theorem dX6_rights_29 : decode cX6_rights 29 = .ok (.iload_n 2, 1) := dk_28 (dk_at dksX6_rights_1 6 rfl rfl)
theorem dX6_rights_30 : decode cX6_rights 30 = .ok (.iconst 0, 1) := dk_3 (dk_at dksX6_rights_1 7 rfl rfl)
theorem dX6_rights_31 : decode cX6_rights 31 = .ok (.bipush 99, 2) := dk_16 99 (dk_at dksX6_rights_1 8 rfl rfl)
theorem dX6_rights_33 : decode cX6_rights 33 = .ok (.invokestatic 128, 3) := dk_184 0 128 (dk_at dksX6_rights_1 10 rfl rfl)
theorem dX6_rights_36 : decode cX6_rights 36 = .ok (.ifCond .ne 9, 3) := dk_154 0 9 (dk_at dksX6_rights_1 13 rfl rfl)
theorem dX6_rights_39 : decode cX6_rights 39 = .ok (.aload_n 0, 1) := dk_42 (dk_at dksX6_rights_1 16 rfl rfl)
theorem dX6_rights_40 : decode cX6_rights 40 = .ok (.iconst 2, 1) := dk_5 (dk_at dksX6_rights_1 17 rfl rfl)
theorem dX6_rights_41 : decode cX6_rights 41 = .ok (.invokevirtual 55, 3) := dk_182 0 55 (dk_at dksX6_rights_1 18 rfl rfl)
theorem dX6_rights_44 : decode cX6_rights 44 = .ok (.ireturn, 1) := dk_172 (dk_at dksX6_rights_1 21 rfl rfl)
theorem dX6_rights_45 : decode cX6_rights 45 = .ok (.aload_n 0, 1) := dk_42 (dk_at dksX6_rights_1 22 rfl rfl)
theorem dX6_rights_46 : decode cX6_rights 46 = .ok (.invokevirtual 342, 3) := dk_182 1 86 (dk_at dksX6_rights_2 0 rfl rfl)
theorem dX6_rights_49 : decode cX6_rights 49 = .ok (.aload_n 0, 1) := dk_42 (dk_at dksX6_rights_2 3 rfl rfl)
theorem dX6_rights_50 : decode cX6_rights 50 = .ok (.iload_n 1, 1) := dk_27 (dk_at dksX6_rights_2 4 rfl rfl)
theorem dX6_rights_51 : decode cX6_rights 51 = .ok (.putfield 458, 3) := dk_181 1 202 (dk_at dksX6_rights_2 5 rfl rfl)
theorem dX6_rights_54 : decode cX6_rights 54 = .ok (.iconst 0, 1) := dk_3 (dk_at dksX6_rights_2 8 rfl rfl)
theorem dX6_rights_55 : decode cX6_rights 55 = .ok (.istore_n 3, 1) := dk_62 (dk_at dksX6_rights_2 9 rfl rfl)
theorem dX6_rights_56 : decode cX6_rights 56 = .ok (.iconst 0, 1) := dk_3 (dk_at dksX6_rights_2 10 rfl rfl)
theorem dX6_rights_57 : decode cX6_rights 57 = .ok (.istore 4, 2) := dk_54 4 (dk_at dksX6_rights_2 11 rfl rfl)
theorem dX6_rights_59 : decode cX6_rights 59 = .ok (.iload 4, 2) := dk_21 4 (dk_at dksX6_rights_2 13 rfl rfl)
theorem dX6_rights_61 : decode cX6_rights 61 = .ok (.iload_n 2, 1) := dk_28 (dk_at dksX6_rights_2 15 rfl rfl)
theorem dX6_rights_62 : decode cX6_rights 62 = .ok (.if_icmp .ge 63, 3) := dk_162 0 63 (dk_at dksX6_rights_2 16 rfl rfl)
theorem dX6_rights_65 : decode cX6_rights 65 = .ok (.iconst 0, 1) := dk_3 (dk_at dksX6_rights_2 19 rfl rfl)
theorem dX6_rights_66 : decode cX6_rights 66 = .ok (.istore 5, 2) := dk_54 5 (dk_at dksX6_rights_2 20 rfl rfl)
theorem dX6_rights_68 : decode cX6_rights 68 = .ok (.iload 5, 2) := dk_21 5 (dk_at dksX6_rights_2 22 rfl rfl)
theorem dX6_rights_70 : decode cX6_rights 70 = .ok (.aload_n 0, 1) := dk_42 (dk_at dksX6_rights_3 0 rfl rfl)
theorem dX6_rights_71 : decode cX6_rights 71 = .ok (.getfield 303, 3) := dk_180 1 47 (dk_at dksX6_rights_3 1 rfl rfl)
theorem dX6_rights_74 : decode cX6_rights 74 = .ok (.getfield 241, 3) := dk_180 0 241 (dk_at dksX6_rights_3 4 rfl rfl)
theorem dX6_rights_77 : decode cX6_rights 77 = .ok (.if_icmp .ge 42, 3) := dk_162 0 42 (dk_at dksX6_rights_3 7 rfl rfl)
theorem dX6_rights_80 : decode cX6_rights 80 = .ok (.iload_n 3, 1) := dk_29 (dk_at dksX6_rights_3 10 rfl rfl)
theorem dX6_rights_81 : decode cX6_rights 81 = .ok (.aload_n 0, 1) := dk_42 (dk_at dksX6_rights_3 11 rfl rfl)
theorem dX6_rights_82 : decode cX6_rights 82 = .ok (.iload 5, 2) := dk_21 5 (dk_at dksX6_rights_3 12 rfl rfl)
theorem dX6_rights_84 : decode cX6_rights 84 = .ok (.iload 4, 2) := dk_21 4 (dk_at dksX6_rights_3 14 rfl rfl)
theorem dX6_rights_86 : decode cX6_rights 86 = .ok (.aload_n 0, 1) := dk_42 (dk_at dksX6_rights_3 16 rfl rfl)
theorem dX6_rights_87 : decode cX6_rights 87 = .ok (.invokevirtual 466, 3) := dk_182 1 210 (dk_at dksX6_rights_3 17 rfl rfl)
theorem dX6_rights_90 : decode cX6_rights 90 = .ok (.invokevirtual 444, 3) := dk_182 1 188 (dk_at dksX6_rights_3 20 rfl rfl)
theorem dX6_rights_93 : decode cX6_rights 93 = .ok (.aload_n 0, 1) := dk_42 (dk_at dksX6_rights_3 23 rfl rfl)
theorem dX6_rights_94 : decode cX6_rights 94 = .ok (.getfield 303, 3) := dk_180 1 47 (dk_at dksX6_rights_4 0 rfl rfl)
theorem dX6_rights_97 : decode cX6_rights 97 = .ok (.getfield 263, 3) := dk_180 1 7 (dk_at dksX6_rights_4 3 rfl rfl)
theorem dX6_rights_100 : decode cX6_rights 100 = .ok (.iload 5, 2) := dk_21 5 (dk_at dksX6_rights_4 6 rfl rfl)
theorem dX6_rights_102 : decode cX6_rights 102 = .ok (.iaload, 1) := dk_46 (dk_at dksX6_rights_4 8 rfl rfl)
theorem dX6_rights_103 : decode cX6_rights 103 = .ok (.if_icmp .ne 7, 3) := dk_160 0 7 (dk_at dksX6_rights_4 9 rfl rfl)
theorem dX6_rights_106 : decode cX6_rights 106 = .ok (.iconst 1, 1) := dk_4 (dk_at dksX6_rights_4 12 rfl rfl)
theorem dX6_rights_107 : decode cX6_rights 107 = .ok (.goto 4, 3) := dk_167 0 4 (dk_at dksX6_rights_4 13 rfl rfl)
theorem dX6_rights_110 : decode cX6_rights 110 = .ok (.iconst 0, 1) := dk_3 (dk_at dksX6_rights_4 16 rfl rfl)
theorem dX6_rights_111 : decode cX6_rights 111 = .ok (.iadd, 1) := dk_96 (dk_at dksX6_rights_4 17 rfl rfl)
theorem dX6_rights_112 : decode cX6_rights 112 = .ok (.istore_n 3, 1) := dk_62 (dk_at dksX6_rights_4 18 rfl rfl)
theorem dX6_rights_113 : decode cX6_rights 113 = .ok (.iinc 5 1, 3) := dk_132 5 1 (dk_at dksX6_rights_4 19 rfl rfl)
theorem dX6_rights_116 : decode cX6_rights 116 = .ok (.goto (-48), 3) := dk_167 255 208 (dk_at dksX6_rights_5 0 rfl rfl)
theorem dX6_rights_119 : decode cX6_rights 119 = .ok (.iinc 4 1, 3) := dk_132 4 1 (dk_at dksX6_rights_5 3 rfl rfl)
theorem dX6_rights_122 : decode cX6_rights 122 = .ok (.goto (-63), 3) := dk_167 255 193 (dk_at dksX6_rights_5 6 rfl rfl)
theorem dX6_rights_125 : decode cX6_rights 125 = .ok (.aload_n 0, 1) := dk_42 (dk_at dksX6_rights_5 9 rfl rfl)
theorem dX6_rights_126 : decode cX6_rights 126 = .ok (.iload_n 3, 1) := dk_29 (dk_at dksX6_rights_5 10 rfl rfl)
theorem dX6_rights_127 : decode cX6_rights 127 = .ok (.invokevirtual 59, 3) := dk_182 0 59 (dk_at dksX6_rights_5 11 rfl rfl)
theorem dX6_rights_130 : decode cX6_rights 130 = .ok (.ireturn, 1) := dk_172 (dk_at dksX6_rights_5 14 rfl rfl)
abbrev cX6_night : ByteArray := prog_15_method_128_code
def yX6_night : MethodName := ⟨RX6, "night", "()I"⟩
def dkwX6_night_2 : List UInt8 := [4, 96, 79, 42, 182, 1, 86, 42, 42, 42, 180, 0, 17, 16, 18, 46, 182, 1, 102, 182, 0, 59, 172]
abbrev dktX6_night_2 : List UInt8 := dkwX6_night_2 ++ []
def dkwX6_night_1 : List UInt8 := [46, 16, 99, 160, 0, 9, 42, 6, 182, 0, 55, 172, 42, 182, 1, 213, 42, 180, 0, 17, 16, 18, 92, 46]
abbrev dktX6_night_1 : List UInt8 := dkwX6_night_1 ++ dktX6_night_2
def dkwX6_night_0 : List UInt8 := [42, 3, 181, 0, 49, 42, 180, 1, 47, 199, 0, 9, 42, 4, 182, 0, 55, 172, 42, 180, 0, 17, 16, 18]
abbrev dktX6_night_0 : List UInt8 := dkwX6_night_0 ++ dktX6_night_1
theorem dksX6_night_0 : cX6_night.data.toList.drop 0 = dktX6_night_0 := by decide +kernel
theorem dksX6_night_1 : cX6_night.data.toList.drop 24 = dktX6_night_1 := dk_seg dksX6_night_0 24 rfl rfl
theorem dksX6_night_2 : cX6_night.data.toList.drop 48 = dktX6_night_2 := dk_seg dksX6_night_1 24 rfl rfl
theorem dX6_night_0 : decode cX6_night 0 = .ok (.aload_n 0, 1) := dk_42 (dk_at dksX6_night_0 0 rfl rfl)
theorem dX6_night_1 : decode cX6_night 1 = .ok (.iconst 0, 1) := dk_3 (dk_at dksX6_night_0 1 rfl rfl)
theorem dX6_night_2 : decode cX6_night 2 = .ok (.putfield 49, 3) := dk_181 0 49 (dk_at dksX6_night_0 2 rfl rfl)
theorem dX6_night_5 : decode cX6_night 5 = .ok (.aload_n 0, 1) := dk_42 (dk_at dksX6_night_0 5 rfl rfl)
theorem dX6_night_6 : decode cX6_night 6 = .ok (.getfield 303, 3) := dk_180 1 47 (dk_at dksX6_night_0 6 rfl rfl)
theorem dX6_night_9 : decode cX6_night 9 = .ok (.ifnonnull 9, 3) := dk_199 0 9 (dk_at dksX6_night_0 9 rfl rfl)
theorem dX6_night_12 : decode cX6_night 12 = .ok (.aload_n 0, 1) := dk_42 (dk_at dksX6_night_0 12 rfl rfl)
theorem dX6_night_13 : decode cX6_night 13 = .ok (.iconst 1, 1) := dk_4 (dk_at dksX6_night_0 13 rfl rfl)
theorem dX6_night_14 : decode cX6_night 14 = .ok (.invokevirtual 55, 3) := dk_182 0 55 (dk_at dksX6_night_0 14 rfl rfl)
theorem dX6_night_17 : decode cX6_night 17 = .ok (.ireturn, 1) := dk_172 (dk_at dksX6_night_0 17 rfl rfl)
theorem dX6_night_18 : decode cX6_night 18 = .ok (.aload_n 0, 1) := dk_42 (dk_at dksX6_night_0 18 rfl rfl)
theorem dX6_night_19 : decode cX6_night 19 = .ok (.getfield 17, 3) := dk_180 0 17 (dk_at dksX6_night_0 19 rfl rfl)
theorem dX6_night_22 : decode cX6_night 22 = .ok (.bipush 18, 2) := dk_16 18 (dk_at dksX6_night_0 22 rfl rfl)
theorem dX6_night_24 : decode cX6_night 24 = .ok (.iaload, 1) := dk_46 (dk_at dksX6_night_1 0 rfl rfl)
theorem dX6_night_25 : decode cX6_night 25 = .ok (.bipush 99, 2) := dk_16 99 (dk_at dksX6_night_1 1 rfl rfl)
theorem dX6_night_27 : decode cX6_night 27 = .ok (.if_icmp .ne 9, 3) := dk_160 0 9 (dk_at dksX6_night_1 3 rfl rfl)
theorem dX6_night_30 : decode cX6_night 30 = .ok (.aload_n 0, 1) := dk_42 (dk_at dksX6_night_1 6 rfl rfl)
theorem dX6_night_31 : decode cX6_night 31 = .ok (.iconst 3, 1) := dk_6 (dk_at dksX6_night_1 7 rfl rfl)
theorem dX6_night_32 : decode cX6_night 32 = .ok (.invokevirtual 55, 3) := dk_182 0 55 (dk_at dksX6_night_1 8 rfl rfl)
theorem dX6_night_35 : decode cX6_night 35 = .ok (.ireturn, 1) := dk_172 (dk_at dksX6_night_1 11 rfl rfl)
theorem dX6_night_36 : decode cX6_night 36 = .ok (.aload_n 0, 1) := dk_42 (dk_at dksX6_night_1 12 rfl rfl)
theorem dX6_night_37 : decode cX6_night 37 = .ok (.invokevirtual 469, 3) := dk_182 1 213 (dk_at dksX6_night_1 13 rfl rfl)
theorem dX6_night_40 : decode cX6_night 40 = .ok (.aload_n 0, 1) := dk_42 (dk_at dksX6_night_1 16 rfl rfl)
theorem dX6_night_41 : decode cX6_night 41 = .ok (.getfield 17, 3) := dk_180 0 17 (dk_at dksX6_night_1 17 rfl rfl)
theorem dX6_night_44 : decode cX6_night 44 = .ok (.bipush 18, 2) := dk_16 18 (dk_at dksX6_night_1 20 rfl rfl)
theorem dX6_night_46 : decode cX6_night 46 = .ok (.dup2, 1) := dk_92 (dk_at dksX6_night_1 22 rfl rfl)
theorem dX6_night_47 : decode cX6_night 47 = .ok (.iaload, 1) := dk_46 (dk_at dksX6_night_1 23 rfl rfl)
theorem dX6_night_48 : decode cX6_night 48 = .ok (.iconst 1, 1) := dk_4 (dk_at dksX6_night_2 0 rfl rfl)
theorem dX6_night_49 : decode cX6_night 49 = .ok (.iadd, 1) := dk_96 (dk_at dksX6_night_2 1 rfl rfl)
theorem dX6_night_50 : decode cX6_night 50 = .ok (.iastore, 1) := dk_79 (dk_at dksX6_night_2 2 rfl rfl)
theorem dX6_night_51 : decode cX6_night 51 = .ok (.aload_n 0, 1) := dk_42 (dk_at dksX6_night_2 3 rfl rfl)
theorem dX6_night_52 : decode cX6_night 52 = .ok (.invokevirtual 342, 3) := dk_182 1 86 (dk_at dksX6_night_2 4 rfl rfl)
theorem dX6_night_55 : decode cX6_night 55 = .ok (.aload_n 0, 1) := dk_42 (dk_at dksX6_night_2 7 rfl rfl)
theorem dX6_night_56 : decode cX6_night 56 = .ok (.aload_n 0, 1) := dk_42 (dk_at dksX6_night_2 8 rfl rfl)
theorem dX6_night_57 : decode cX6_night 57 = .ok (.aload_n 0, 1) := dk_42 (dk_at dksX6_night_2 9 rfl rfl)
theorem dX6_night_58 : decode cX6_night 58 = .ok (.getfield 17, 3) := dk_180 0 17 (dk_at dksX6_night_2 10 rfl rfl)
theorem dX6_night_61 : decode cX6_night 61 = .ok (.bipush 18, 2) := dk_16 18 (dk_at dksX6_night_2 13 rfl rfl)
theorem dX6_night_63 : decode cX6_night 63 = .ok (.iaload, 1) := dk_46 (dk_at dksX6_night_2 15 rfl rfl)
theorem dX6_night_64 : decode cX6_night 64 = .ok (.invokevirtual 358, 3) := dk_182 1 102 (dk_at dksX6_night_2 16 rfl rfl)
theorem dX6_night_67 : decode cX6_night 67 = .ok (.invokevirtual 59, 3) := dk_182 0 59 (dk_at dksX6_night_2 19 rfl rfl)
theorem dX6_night_70 : decode cX6_night 70 = .ok (.ireturn, 1) := dk_172 (dk_at dksX6_night_2 22 rfl rfl)
abbrev cX6_remembers : ByteArray := prog_15_method_127_code
def yX6_remembers : MethodName := ⟨RX6, "remembers", "()V"⟩
def dkwX6_remembers_3 : List UInt8 := [42, 180, 0, 17, 27, 46, 79, 132, 1, 1, 167, 255, 227, 42, 89, 180, 1, 52, 4, 96, 181, 1, 52, 177]
abbrev dktX6_remembers_3 : List UInt8 := dkwX6_remembers_3 ++ []
def dkwX6_remembers_2 : List UInt8 := [181, 1, 52, 3, 60, 27, 16, 19, 162, 0, 29, 42, 180, 0, 24, 16, 19, 42, 180, 1, 52, 104, 27, 96]
abbrev dktX6_remembers_2 : List UInt8 := dkwX6_remembers_2 ++ dktX6_remembers_3
def dkwX6_remembers_1 : List UInt8 := [180, 0, 24, 27, 16, 19, 96, 46, 79, 132, 1, 1, 167, 255, 231, 42, 89, 180, 1, 52, 4, 100]
abbrev dktX6_remembers_1 : List UInt8 := dkwX6_remembers_1 ++ dktX6_remembers_2
def dkwX6_remembers_0 : List UInt8 := [42, 180, 1, 52, 16, 16, 160, 0, 43, 3, 60, 27, 17, 1, 29, 162, 0, 24, 42, 180, 0, 24, 27, 42]
abbrev dktX6_remembers_0 : List UInt8 := dkwX6_remembers_0 ++ dktX6_remembers_1
theorem dksX6_remembers_0 : cX6_remembers.data.toList.drop 0 = dktX6_remembers_0 := by decide +kernel
theorem dksX6_remembers_1 : cX6_remembers.data.toList.drop 24 = dktX6_remembers_1 := dk_seg dksX6_remembers_0 24 rfl rfl
theorem dksX6_remembers_2 : cX6_remembers.data.toList.drop 46 = dktX6_remembers_2 := dk_seg dksX6_remembers_1 22 rfl rfl
theorem dksX6_remembers_3 : cX6_remembers.data.toList.drop 70 = dktX6_remembers_3 := dk_seg dksX6_remembers_2 24 rfl rfl
theorem dX6_remembers_0 : decode cX6_remembers 0 = .ok (.aload_n 0, 1) := dk_42 (dk_at dksX6_remembers_0 0 rfl rfl)
theorem dX6_remembers_1 : decode cX6_remembers 1 = .ok (.getfield 308, 3) := dk_180 1 52 (dk_at dksX6_remembers_0 1 rfl rfl)
theorem dX6_remembers_4 : decode cX6_remembers 4 = .ok (.bipush 16, 2) := dk_16 16 (dk_at dksX6_remembers_0 4 rfl rfl)
theorem dX6_remembers_6 : decode cX6_remembers 6 = .ok (.if_icmp .ne 43, 3) := dk_160 0 43 (dk_at dksX6_remembers_0 6 rfl rfl)
theorem dX6_remembers_9 : decode cX6_remembers 9 = .ok (.iconst 0, 1) := dk_3 (dk_at dksX6_remembers_0 9 rfl rfl)
theorem dX6_remembers_10 : decode cX6_remembers 10 = .ok (.istore_n 1, 1) := dk_60 (dk_at dksX6_remembers_0 10 rfl rfl)
theorem dX6_remembers_11 : decode cX6_remembers 11 = .ok (.iload_n 1, 1) := dk_27 (dk_at dksX6_remembers_0 11 rfl rfl)
theorem dX6_remembers_12 : decode cX6_remembers 12 = .ok (.sipush 285, 3) := dk_17 1 29 (dk_at dksX6_remembers_0 12 rfl rfl)
theorem dX6_remembers_15 : decode cX6_remembers 15 = .ok (.if_icmp .ge 24, 3) := dk_162 0 24 (dk_at dksX6_remembers_0 15 rfl rfl)
theorem dX6_remembers_18 : decode cX6_remembers 18 = .ok (.aload_n 0, 1) := dk_42 (dk_at dksX6_remembers_0 18 rfl rfl)
theorem dX6_remembers_19 : decode cX6_remembers 19 = .ok (.getfield 24, 3) := dk_180 0 24 (dk_at dksX6_remembers_0 19 rfl rfl)
theorem dX6_remembers_22 : decode cX6_remembers 22 = .ok (.iload_n 1, 1) := dk_27 (dk_at dksX6_remembers_0 22 rfl rfl)
theorem dX6_remembers_23 : decode cX6_remembers 23 = .ok (.aload_n 0, 1) := dk_42 (dk_at dksX6_remembers_0 23 rfl rfl)
theorem dX6_remembers_24 : decode cX6_remembers 24 = .ok (.getfield 24, 3) := dk_180 0 24 (dk_at dksX6_remembers_1 0 rfl rfl)
theorem dX6_remembers_27 : decode cX6_remembers 27 = .ok (.iload_n 1, 1) := dk_27 (dk_at dksX6_remembers_1 3 rfl rfl)
theorem dX6_remembers_28 : decode cX6_remembers 28 = .ok (.bipush 19, 2) := dk_16 19 (dk_at dksX6_remembers_1 4 rfl rfl)
theorem dX6_remembers_30 : decode cX6_remembers 30 = .ok (.iadd, 1) := dk_96 (dk_at dksX6_remembers_1 6 rfl rfl)
theorem dX6_remembers_31 : decode cX6_remembers 31 = .ok (.iaload, 1) := dk_46 (dk_at dksX6_remembers_1 7 rfl rfl)
theorem dX6_remembers_32 : decode cX6_remembers 32 = .ok (.iastore, 1) := dk_79 (dk_at dksX6_remembers_1 8 rfl rfl)
theorem dX6_remembers_33 : decode cX6_remembers 33 = .ok (.iinc 1 1, 3) := dk_132 1 1 (dk_at dksX6_remembers_1 9 rfl rfl)
theorem dX6_remembers_36 : decode cX6_remembers 36 = .ok (.goto (-25), 3) := dk_167 255 231 (dk_at dksX6_remembers_1 12 rfl rfl)
theorem dX6_remembers_39 : decode cX6_remembers 39 = .ok (.aload_n 0, 1) := dk_42 (dk_at dksX6_remembers_1 15 rfl rfl)
theorem dX6_remembers_40 : decode cX6_remembers 40 = .ok (.dup, 1) := dk_89 (dk_at dksX6_remembers_1 16 rfl rfl)
theorem dX6_remembers_41 : decode cX6_remembers 41 = .ok (.getfield 308, 3) := dk_180 1 52 (dk_at dksX6_remembers_1 17 rfl rfl)
theorem dX6_remembers_44 : decode cX6_remembers 44 = .ok (.iconst 1, 1) := dk_4 (dk_at dksX6_remembers_1 20 rfl rfl)
theorem dX6_remembers_45 : decode cX6_remembers 45 = .ok (.isub, 1) := dk_100 (dk_at dksX6_remembers_1 21 rfl rfl)
theorem dX6_remembers_46 : decode cX6_remembers 46 = .ok (.putfield 308, 3) := dk_181 1 52 (dk_at dksX6_remembers_2 0 rfl rfl)
theorem dX6_remembers_49 : decode cX6_remembers 49 = .ok (.iconst 0, 1) := dk_3 (dk_at dksX6_remembers_2 3 rfl rfl)
theorem dX6_remembers_50 : decode cX6_remembers 50 = .ok (.istore_n 1, 1) := dk_60 (dk_at dksX6_remembers_2 4 rfl rfl)
theorem dX6_remembers_51 : decode cX6_remembers 51 = .ok (.iload_n 1, 1) := dk_27 (dk_at dksX6_remembers_2 5 rfl rfl)
theorem dX6_remembers_52 : decode cX6_remembers 52 = .ok (.bipush 19, 2) := dk_16 19 (dk_at dksX6_remembers_2 6 rfl rfl)
theorem dX6_remembers_54 : decode cX6_remembers 54 = .ok (.if_icmp .ge 29, 3) := dk_162 0 29 (dk_at dksX6_remembers_2 8 rfl rfl)
theorem dX6_remembers_57 : decode cX6_remembers 57 = .ok (.aload_n 0, 1) := dk_42 (dk_at dksX6_remembers_2 11 rfl rfl)
theorem dX6_remembers_58 : decode cX6_remembers 58 = .ok (.getfield 24, 3) := dk_180 0 24 (dk_at dksX6_remembers_2 12 rfl rfl)
theorem dX6_remembers_61 : decode cX6_remembers 61 = .ok (.bipush 19, 2) := dk_16 19 (dk_at dksX6_remembers_2 15 rfl rfl)
theorem dX6_remembers_63 : decode cX6_remembers 63 = .ok (.aload_n 0, 1) := dk_42 (dk_at dksX6_remembers_2 17 rfl rfl)
theorem dX6_remembers_64 : decode cX6_remembers 64 = .ok (.getfield 308, 3) := dk_180 1 52 (dk_at dksX6_remembers_2 18 rfl rfl)
theorem dX6_remembers_67 : decode cX6_remembers 67 = .ok (.imul, 1) := dk_104 (dk_at dksX6_remembers_2 21 rfl rfl)
theorem dX6_remembers_68 : decode cX6_remembers 68 = .ok (.iload_n 1, 1) := dk_27 (dk_at dksX6_remembers_2 22 rfl rfl)
theorem dX6_remembers_69 : decode cX6_remembers 69 = .ok (.iadd, 1) := dk_96 (dk_at dksX6_remembers_2 23 rfl rfl)
theorem dX6_remembers_70 : decode cX6_remembers 70 = .ok (.aload_n 0, 1) := dk_42 (dk_at dksX6_remembers_3 0 rfl rfl)
theorem dX6_remembers_71 : decode cX6_remembers 71 = .ok (.getfield 17, 3) := dk_180 0 17 (dk_at dksX6_remembers_3 1 rfl rfl)
theorem dX6_remembers_74 : decode cX6_remembers 74 = .ok (.iload_n 1, 1) := dk_27 (dk_at dksX6_remembers_3 4 rfl rfl)
theorem dX6_remembers_75 : decode cX6_remembers 75 = .ok (.iaload, 1) := dk_46 (dk_at dksX6_remembers_3 5 rfl rfl)
theorem dX6_remembers_76 : decode cX6_remembers 76 = .ok (.iastore, 1) := dk_79 (dk_at dksX6_remembers_3 6 rfl rfl)
theorem dX6_remembers_77 : decode cX6_remembers 77 = .ok (.iinc 1 1, 3) := dk_132 1 1 (dk_at dksX6_remembers_3 7 rfl rfl)
theorem dX6_remembers_80 : decode cX6_remembers 80 = .ok (.goto (-29), 3) := dk_167 255 227 (dk_at dksX6_remembers_3 10 rfl rfl)
theorem dX6_remembers_83 : decode cX6_remembers 83 = .ok (.aload_n 0, 1) := dk_42 (dk_at dksX6_remembers_3 13 rfl rfl)
theorem dX6_remembers_84 : decode cX6_remembers 84 = .ok (.dup, 1) := dk_89 (dk_at dksX6_remembers_3 14 rfl rfl)
theorem dX6_remembers_85 : decode cX6_remembers 85 = .ok (.getfield 308, 3) := dk_180 1 52 (dk_at dksX6_remembers_3 15 rfl rfl)
theorem dX6_remembers_88 : decode cX6_remembers 88 = .ok (.iconst 1, 1) := dk_4 (dk_at dksX6_remembers_3 18 rfl rfl)
theorem dX6_remembers_89 : decode cX6_remembers 89 = .ok (.iadd, 1) := dk_96 (dk_at dksX6_remembers_3 19 rfl rfl)
theorem dX6_remembers_90 : decode cX6_remembers 90 = .ok (.putfield 308, 3) := dk_181 1 52 (dk_at dksX6_remembers_3 20 rfl rfl)
theorem dX6_remembers_93 : decode cX6_remembers 93 = .ok (.return_, 1) := dk_177 (dk_at dksX6_remembers_3 23 rfl rfl)
abbrev cX6_move : ByteArray := prog_15_method_129_code
def yX6_move : MethodName := ⟨RX6, "move", "(II)I"⟩
def dkwX6_move_2 : List UInt8 := [42, 182, 1, 213, 42, 180, 0, 17, 27, 28, 79, 42, 42, 180, 0, 21, 27, 46, 182, 0, 59, 172]
abbrev dktX6_move_2 : List UInt8 := dkwX6_move_2 ++ []
def dkwX6_move_1 : List UInt8 := [182, 0, 55, 172, 42, 182, 1, 86, 42, 28, 182, 1, 64, 16, 254, 159, 0, 9, 42, 8, 182, 0, 55, 172]
abbrev dktX6_move_1 : List UInt8 := dkwX6_move_1 ++ dktX6_move_2
def dkwX6_move_0 : List UInt8 := [42, 3, 181, 0, 49, 42, 27, 182, 1, 83, 153, 0, 11, 42, 28, 182, 1, 95, 154, 0, 9, 42, 4]
abbrev dktX6_move_0 : List UInt8 := dkwX6_move_0 ++ dktX6_move_1
theorem dksX6_move_0 : cX6_move.data.toList.drop 0 = dktX6_move_0 := by decide +kernel
theorem dksX6_move_1 : cX6_move.data.toList.drop 23 = dktX6_move_1 := dk_seg dksX6_move_0 23 rfl rfl
theorem dksX6_move_2 : cX6_move.data.toList.drop 47 = dktX6_move_2 := dk_seg dksX6_move_1 24 rfl rfl
theorem dX6_move_0 : decode cX6_move 0 = .ok (.aload_n 0, 1) := dk_42 (dk_at dksX6_move_0 0 rfl rfl)
theorem dX6_move_1 : decode cX6_move 1 = .ok (.iconst 0, 1) := dk_3 (dk_at dksX6_move_0 1 rfl rfl)
theorem dX6_move_2 : decode cX6_move 2 = .ok (.putfield 49, 3) := dk_181 0 49 (dk_at dksX6_move_0 2 rfl rfl)
theorem dX6_move_5 : decode cX6_move 5 = .ok (.aload_n 0, 1) := dk_42 (dk_at dksX6_move_0 5 rfl rfl)
theorem dX6_move_6 : decode cX6_move 6 = .ok (.iload_n 1, 1) := dk_27 (dk_at dksX6_move_0 6 rfl rfl)
theorem dX6_move_7 : decode cX6_move 7 = .ok (.invokevirtual 339, 3) := dk_182 1 83 (dk_at dksX6_move_0 7 rfl rfl)
theorem dX6_move_10 : decode cX6_move 10 = .ok (.ifCond .eq 11, 3) := dk_153 0 11 (dk_at dksX6_move_0 10 rfl rfl)
theorem dX6_move_13 : decode cX6_move 13 = .ok (.aload_n 0, 1) := dk_42 (dk_at dksX6_move_0 13 rfl rfl)
theorem dX6_move_14 : decode cX6_move 14 = .ok (.iload_n 2, 1) := dk_28 (dk_at dksX6_move_0 14 rfl rfl)
theorem dX6_move_15 : decode cX6_move 15 = .ok (.invokevirtual 351, 3) := dk_182 1 95 (dk_at dksX6_move_0 15 rfl rfl)
theorem dX6_move_18 : decode cX6_move 18 = .ok (.ifCond .ne 9, 3) := dk_154 0 9 (dk_at dksX6_move_0 18 rfl rfl)
theorem dX6_move_21 : decode cX6_move 21 = .ok (.aload_n 0, 1) := dk_42 (dk_at dksX6_move_0 21 rfl rfl)
theorem dX6_move_22 : decode cX6_move 22 = .ok (.iconst 1, 1) := dk_4 (dk_at dksX6_move_0 22 rfl rfl)
theorem dX6_move_23 : decode cX6_move 23 = .ok (.invokevirtual 55, 3) := dk_182 0 55 (dk_at dksX6_move_1 0 rfl rfl)
theorem dX6_move_26 : decode cX6_move 26 = .ok (.ireturn, 1) := dk_172 (dk_at dksX6_move_1 3 rfl rfl)
theorem dX6_move_27 : decode cX6_move 27 = .ok (.aload_n 0, 1) := dk_42 (dk_at dksX6_move_1 4 rfl rfl)
theorem dX6_move_28 : decode cX6_move 28 = .ok (.invokevirtual 342, 3) := dk_182 1 86 (dk_at dksX6_move_1 5 rfl rfl)
theorem dX6_move_31 : decode cX6_move 31 = .ok (.aload_n 0, 1) := dk_42 (dk_at dksX6_move_1 8 rfl rfl)
theorem dX6_move_32 : decode cX6_move 32 = .ok (.iload_n 2, 1) := dk_28 (dk_at dksX6_move_1 9 rfl rfl)
theorem dX6_move_33 : decode cX6_move 33 = .ok (.invokevirtual 320, 3) := dk_182 1 64 (dk_at dksX6_move_1 10 rfl rfl)
theorem dX6_move_36 : decode cX6_move 36 = .ok (.bipush (-2), 2) := dk_16 254 (dk_at dksX6_move_1 13 rfl rfl)
theorem dX6_move_38 : decode cX6_move 38 = .ok (.if_icmp .eq 9, 3) := dk_159 0 9 (dk_at dksX6_move_1 15 rfl rfl)
theorem dX6_move_41 : decode cX6_move 41 = .ok (.aload_n 0, 1) := dk_42 (dk_at dksX6_move_1 18 rfl rfl)
theorem dX6_move_42 : decode cX6_move 42 = .ok (.iconst 5, 1) := dk_8 (dk_at dksX6_move_1 19 rfl rfl)
theorem dX6_move_43 : decode cX6_move 43 = .ok (.invokevirtual 55, 3) := dk_182 0 55 (dk_at dksX6_move_1 20 rfl rfl)
theorem dX6_move_46 : decode cX6_move 46 = .ok (.ireturn, 1) := dk_172 (dk_at dksX6_move_1 23 rfl rfl)
theorem dX6_move_47 : decode cX6_move 47 = .ok (.aload_n 0, 1) := dk_42 (dk_at dksX6_move_2 0 rfl rfl)
theorem dX6_move_48 : decode cX6_move 48 = .ok (.invokevirtual 469, 3) := dk_182 1 213 (dk_at dksX6_move_2 1 rfl rfl)
theorem dX6_move_51 : decode cX6_move 51 = .ok (.aload_n 0, 1) := dk_42 (dk_at dksX6_move_2 4 rfl rfl)
theorem dX6_move_52 : decode cX6_move 52 = .ok (.getfield 17, 3) := dk_180 0 17 (dk_at dksX6_move_2 5 rfl rfl)
theorem dX6_move_55 : decode cX6_move 55 = .ok (.iload_n 1, 1) := dk_27 (dk_at dksX6_move_2 8 rfl rfl)
theorem dX6_move_56 : decode cX6_move 56 = .ok (.iload_n 2, 1) := dk_28 (dk_at dksX6_move_2 9 rfl rfl)
theorem dX6_move_57 : decode cX6_move 57 = .ok (.iastore, 1) := dk_79 (dk_at dksX6_move_2 10 rfl rfl)
theorem dX6_move_58 : decode cX6_move 58 = .ok (.aload_n 0, 1) := dk_42 (dk_at dksX6_move_2 11 rfl rfl)
theorem dX6_move_59 : decode cX6_move 59 = .ok (.aload_n 0, 1) := dk_42 (dk_at dksX6_move_2 12 rfl rfl)
theorem dX6_move_60 : decode cX6_move 60 = .ok (.getfield 21, 3) := dk_180 0 21 (dk_at dksX6_move_2 13 rfl rfl)
theorem dX6_move_63 : decode cX6_move 63 = .ok (.iload_n 1, 1) := dk_27 (dk_at dksX6_move_2 16 rfl rfl)
theorem dX6_move_64 : decode cX6_move 64 = .ok (.iaload, 1) := dk_46 (dk_at dksX6_move_2 17 rfl rfl)
theorem dX6_move_65 : decode cX6_move 65 = .ok (.invokevirtual 59, 3) := dk_182 0 59 (dk_at dksX6_move_2 18 rfl rfl)
theorem dX6_move_68 : decode cX6_move 68 = .ok (.ireturn, 1) := dk_172 (dk_at dksX6_move_2 21 rfl rfl)
abbrev cX6_hang : ByteArray := prog_15_method_131_code
def yX6_hang : MethodName := ⟨RX6, "hang", "(II)Z"⟩
def dkwX6_hang_1 : List UInt8 := [182, 1, 222, 167, 0, 8, 42, 4, 182, 1, 216, 172]
abbrev dktX6_hang_1 : List UInt8 := dkwX6_hang_1 ++ []
def dkwX6_hang_0 : List UInt8 := [42, 3, 181, 0, 49, 42, 27, 182, 1, 92, 153, 0, 20, 42, 28, 182, 1, 95, 153, 0, 12, 42, 27, 28]
abbrev dktX6_hang_0 : List UInt8 := dkwX6_hang_0 ++ dktX6_hang_1
theorem dksX6_hang_0 : cX6_hang.data.toList.drop 0 = dktX6_hang_0 := by decide +kernel
theorem dksX6_hang_1 : cX6_hang.data.toList.drop 24 = dktX6_hang_1 := dk_seg dksX6_hang_0 24 rfl rfl
theorem dX6_hang_0 : decode cX6_hang 0 = .ok (.aload_n 0, 1) := dk_42 (dk_at dksX6_hang_0 0 rfl rfl)
theorem dX6_hang_1 : decode cX6_hang 1 = .ok (.iconst 0, 1) := dk_3 (dk_at dksX6_hang_0 1 rfl rfl)
theorem dX6_hang_2 : decode cX6_hang 2 = .ok (.putfield 49, 3) := dk_181 0 49 (dk_at dksX6_hang_0 2 rfl rfl)
theorem dX6_hang_5 : decode cX6_hang 5 = .ok (.aload_n 0, 1) := dk_42 (dk_at dksX6_hang_0 5 rfl rfl)
theorem dX6_hang_6 : decode cX6_hang 6 = .ok (.iload_n 1, 1) := dk_27 (dk_at dksX6_hang_0 6 rfl rfl)
theorem dX6_hang_7 : decode cX6_hang 7 = .ok (.invokevirtual 348, 3) := dk_182 1 92 (dk_at dksX6_hang_0 7 rfl rfl)
theorem dX6_hang_10 : decode cX6_hang 10 = .ok (.ifCond .eq 20, 3) := dk_153 0 20 (dk_at dksX6_hang_0 10 rfl rfl)
theorem dX6_hang_13 : decode cX6_hang 13 = .ok (.aload_n 0, 1) := dk_42 (dk_at dksX6_hang_0 13 rfl rfl)
theorem dX6_hang_14 : decode cX6_hang 14 = .ok (.iload_n 2, 1) := dk_28 (dk_at dksX6_hang_0 14 rfl rfl)
theorem dX6_hang_15 : decode cX6_hang 15 = .ok (.invokevirtual 351, 3) := dk_182 1 95 (dk_at dksX6_hang_0 15 rfl rfl)
theorem dX6_hang_18 : decode cX6_hang 18 = .ok (.ifCond .eq 12, 3) := dk_153 0 12 (dk_at dksX6_hang_0 18 rfl rfl)
theorem dX6_hang_21 : decode cX6_hang 21 = .ok (.aload_n 0, 1) := dk_42 (dk_at dksX6_hang_0 21 rfl rfl)
theorem dX6_hang_22 : decode cX6_hang 22 = .ok (.iload_n 1, 1) := dk_27 (dk_at dksX6_hang_0 22 rfl rfl)
theorem dX6_hang_23 : decode cX6_hang 23 = .ok (.iload_n 2, 1) := dk_28 (dk_at dksX6_hang_0 23 rfl rfl)
theorem dX6_hang_24 : decode cX6_hang 24 = .ok (.invokevirtual 478, 3) := dk_182 1 222 (dk_at dksX6_hang_1 0 rfl rfl)
theorem dX6_hang_27 : decode cX6_hang 27 = .ok (.goto 8, 3) := dk_167 0 8 (dk_at dksX6_hang_1 3 rfl rfl)
theorem dX6_hang_30 : decode cX6_hang 30 = .ok (.aload_n 0, 1) := dk_42 (dk_at dksX6_hang_1 6 rfl rfl)
theorem dX6_hang_31 : decode cX6_hang 31 = .ok (.iconst 1, 1) := dk_4 (dk_at dksX6_hang_1 7 rfl rfl)
theorem dX6_hang_32 : decode cX6_hang 32 = .ok (.invokevirtual 472, 3) := dk_182 1 216 (dk_at dksX6_hang_1 8 rfl rfl)
theorem dX6_hang_35 : decode cX6_hang 35 = .ok (.ireturn, 1) := dk_172 (dk_at dksX6_hang_1 11 rfl rfl)
abbrev cX6_hangs : ByteArray := prog_15_method_130_code
def yX6_hangs : MethodName := ⟨RX6, "hangs", "(II)Z"⟩
def dkwX6_hangs_1 : List UInt8 := [180, 0, 17, 16, 12, 27, 96, 28, 79, 42, 182, 1, 219, 172]
abbrev dktX6_hangs_1 : List UInt8 := dkwX6_hangs_1 ++ []
def dkwX6_hangs_0 : List UInt8 := [42, 180, 0, 17, 16, 12, 27, 96, 46, 28, 160, 0, 9, 42, 8, 182, 1, 216, 172, 42, 182, 1, 213, 42]
abbrev dktX6_hangs_0 : List UInt8 := dkwX6_hangs_0 ++ dktX6_hangs_1
theorem dksX6_hangs_0 : cX6_hangs.data.toList.drop 0 = dktX6_hangs_0 := by decide +kernel
theorem dksX6_hangs_1 : cX6_hangs.data.toList.drop 24 = dktX6_hangs_1 := dk_seg dksX6_hangs_0 24 rfl rfl
theorem dX6_hangs_0 : decode cX6_hangs 0 = .ok (.aload_n 0, 1) := dk_42 (dk_at dksX6_hangs_0 0 rfl rfl)
theorem dX6_hangs_1 : decode cX6_hangs 1 = .ok (.getfield 17, 3) := dk_180 0 17 (dk_at dksX6_hangs_0 1 rfl rfl)
theorem dX6_hangs_4 : decode cX6_hangs 4 = .ok (.bipush 12, 2) := dk_16 12 (dk_at dksX6_hangs_0 4 rfl rfl)
theorem dX6_hangs_6 : decode cX6_hangs 6 = .ok (.iload_n 1, 1) := dk_27 (dk_at dksX6_hangs_0 6 rfl rfl)
theorem dX6_hangs_7 : decode cX6_hangs 7 = .ok (.iadd, 1) := dk_96 (dk_at dksX6_hangs_0 7 rfl rfl)
theorem dX6_hangs_8 : decode cX6_hangs 8 = .ok (.iaload, 1) := dk_46 (dk_at dksX6_hangs_0 8 rfl rfl)
theorem dX6_hangs_9 : decode cX6_hangs 9 = .ok (.iload_n 2, 1) := dk_28 (dk_at dksX6_hangs_0 9 rfl rfl)
theorem dX6_hangs_10 : decode cX6_hangs 10 = .ok (.if_icmp .ne 9, 3) := dk_160 0 9 (dk_at dksX6_hangs_0 10 rfl rfl)
theorem dX6_hangs_13 : decode cX6_hangs 13 = .ok (.aload_n 0, 1) := dk_42 (dk_at dksX6_hangs_0 13 rfl rfl)
theorem dX6_hangs_14 : decode cX6_hangs 14 = .ok (.iconst 5, 1) := dk_8 (dk_at dksX6_hangs_0 14 rfl rfl)
theorem dX6_hangs_15 : decode cX6_hangs 15 = .ok (.invokevirtual 472, 3) := dk_182 1 216 (dk_at dksX6_hangs_0 15 rfl rfl)
theorem dX6_hangs_18 : decode cX6_hangs 18 = .ok (.ireturn, 1) := dk_172 (dk_at dksX6_hangs_0 18 rfl rfl)
theorem dX6_hangs_19 : decode cX6_hangs 19 = .ok (.aload_n 0, 1) := dk_42 (dk_at dksX6_hangs_0 19 rfl rfl)
theorem dX6_hangs_20 : decode cX6_hangs 20 = .ok (.invokevirtual 469, 3) := dk_182 1 213 (dk_at dksX6_hangs_0 20 rfl rfl)
theorem dX6_hangs_23 : decode cX6_hangs 23 = .ok (.aload_n 0, 1) := dk_42 (dk_at dksX6_hangs_0 23 rfl rfl)
theorem dX6_hangs_24 : decode cX6_hangs 24 = .ok (.getfield 17, 3) := dk_180 0 17 (dk_at dksX6_hangs_1 0 rfl rfl)
theorem dX6_hangs_27 : decode cX6_hangs 27 = .ok (.bipush 12, 2) := dk_16 12 (dk_at dksX6_hangs_1 3 rfl rfl)
theorem dX6_hangs_29 : decode cX6_hangs 29 = .ok (.iload_n 1, 1) := dk_27 (dk_at dksX6_hangs_1 5 rfl rfl)
theorem dX6_hangs_30 : decode cX6_hangs 30 = .ok (.iadd, 1) := dk_96 (dk_at dksX6_hangs_1 6 rfl rfl)
theorem dX6_hangs_31 : decode cX6_hangs 31 = .ok (.iload_n 2, 1) := dk_28 (dk_at dksX6_hangs_1 7 rfl rfl)
theorem dX6_hangs_32 : decode cX6_hangs 32 = .ok (.iastore, 1) := dk_79 (dk_at dksX6_hangs_1 8 rfl rfl)
theorem dX6_hangs_33 : decode cX6_hangs 33 = .ok (.aload_n 0, 1) := dk_42 (dk_at dksX6_hangs_1 9 rfl rfl)
theorem dX6_hangs_34 : decode cX6_hangs 34 = .ok (.invokevirtual 475, 3) := dk_182 1 219 (dk_at dksX6_hangs_1 10 rfl rfl)
theorem dX6_hangs_37 : decode cX6_hangs 37 = .ok (.ireturn, 1) := dk_172 (dk_at dksX6_hangs_1 13 rfl rfl)
abbrev cX6_denied : ByteArray := prog_15_method_5_code
def yX6_denied : MethodName := ⟨RX6, "denied", "(I)Z"⟩
def dkwX6_denied_0 : List UInt8 := [42, 27, 182, 0, 55, 87, 3, 172]
abbrev dktX6_denied_0 : List UInt8 := dkwX6_denied_0 ++ []
theorem dksX6_denied_0 : cX6_denied.data.toList.drop 0 = dktX6_denied_0 := by decide +kernel
theorem dX6_denied_0 : decode cX6_denied 0 = .ok (.aload_n 0, 1) := dk_42 (dk_at dksX6_denied_0 0 rfl rfl)
theorem dX6_denied_1 : decode cX6_denied 1 = .ok (.iload_n 1, 1) := dk_27 (dk_at dksX6_denied_0 1 rfl rfl)
theorem dX6_denied_2 : decode cX6_denied 2 = .ok (.invokevirtual 55, 3) := dk_182 0 55 (dk_at dksX6_denied_0 2 rfl rfl)
theorem dX6_denied_5 : decode cX6_denied 5 = .ok (.pop, 1) := dk_87 (dk_at dksX6_denied_0 5 rfl rfl)
theorem dX6_denied_6 : decode cX6_denied 6 = .ok (.iconst 0, 1) := dk_3 (dk_at dksX6_denied_0 6 rfl rfl)
theorem dX6_denied_7 : decode cX6_denied 7 = .ok (.ireturn, 1) := dk_172 (dk_at dksX6_denied_0 7 rfl rfl)
abbrev cX6_granted : ByteArray := prog_15_method_7_code
def yX6_granted : MethodName := ⟨RX6, "granted", "()Z"⟩
def dkwX6_granted_0 : List UInt8 := [42, 3, 182, 0, 59, 87, 4, 172]
abbrev dktX6_granted_0 : List UInt8 := dkwX6_granted_0 ++ []
theorem dksX6_granted_0 : cX6_granted.data.toList.drop 0 = dktX6_granted_0 := by decide +kernel
theorem dX6_granted_0 : decode cX6_granted 0 = .ok (.aload_n 0, 1) := dk_42 (dk_at dksX6_granted_0 0 rfl rfl)
theorem dX6_granted_1 : decode cX6_granted 1 = .ok (.iconst 0, 1) := dk_3 (dk_at dksX6_granted_0 1 rfl rfl)
theorem dX6_granted_2 : decode cX6_granted 2 = .ok (.invokevirtual 59, 3) := dk_182 0 59 (dk_at dksX6_granted_0 2 rfl rfl)
theorem dX6_granted_5 : decode cX6_granted 5 = .ok (.pop, 1) := dk_87 (dk_at dksX6_granted_0 5 rfl rfl)
theorem dX6_granted_6 : decode cX6_granted 6 = .ok (.iconst 1, 1) := dk_4 (dk_at dksX6_granted_0 6 rfl rfl)
theorem dX6_granted_7 : decode cX6_granted 7 = .ok (.ireturn, 1) := dk_172 (dk_at dksX6_granted_0 7 rfl rfl)
abbrev cX6_take : ByteArray := prog_15_method_132_code
def yX6_take : MethodName := ⟨RX6, "take", "(I)Z"⟩
def dkwX6_take_1 : List UInt8 := [4, 182, 1, 216, 172]
abbrev dktX6_take_1 : List UInt8 := dkwX6_take_1 ++ []
def dkwX6_take_0 : List UInt8 := [42, 3, 181, 0, 49, 42, 27, 182, 1, 92, 153, 0, 13, 42, 27, 16, 254, 182, 1, 222, 167, 0, 8, 42]
abbrev dktX6_take_0 : List UInt8 := dkwX6_take_0 ++ dktX6_take_1
theorem dksX6_take_0 : cX6_take.data.toList.drop 0 = dktX6_take_0 := by decide +kernel
theorem dksX6_take_1 : cX6_take.data.toList.drop 24 = dktX6_take_1 := dk_seg dksX6_take_0 24 rfl rfl
theorem dX6_take_0 : decode cX6_take 0 = .ok (.aload_n 0, 1) := dk_42 (dk_at dksX6_take_0 0 rfl rfl)
theorem dX6_take_1 : decode cX6_take 1 = .ok (.iconst 0, 1) := dk_3 (dk_at dksX6_take_0 1 rfl rfl)
theorem dX6_take_2 : decode cX6_take 2 = .ok (.putfield 49, 3) := dk_181 0 49 (dk_at dksX6_take_0 2 rfl rfl)
theorem dX6_take_5 : decode cX6_take 5 = .ok (.aload_n 0, 1) := dk_42 (dk_at dksX6_take_0 5 rfl rfl)
theorem dX6_take_6 : decode cX6_take 6 = .ok (.iload_n 1, 1) := dk_27 (dk_at dksX6_take_0 6 rfl rfl)
theorem dX6_take_7 : decode cX6_take 7 = .ok (.invokevirtual 348, 3) := dk_182 1 92 (dk_at dksX6_take_0 7 rfl rfl)
theorem dX6_take_10 : decode cX6_take 10 = .ok (.ifCond .eq 13, 3) := dk_153 0 13 (dk_at dksX6_take_0 10 rfl rfl)
theorem dX6_take_13 : decode cX6_take 13 = .ok (.aload_n 0, 1) := dk_42 (dk_at dksX6_take_0 13 rfl rfl)
theorem dX6_take_14 : decode cX6_take 14 = .ok (.iload_n 1, 1) := dk_27 (dk_at dksX6_take_0 14 rfl rfl)
theorem dX6_take_15 : decode cX6_take 15 = .ok (.bipush (-2), 2) := dk_16 254 (dk_at dksX6_take_0 15 rfl rfl)
theorem dX6_take_17 : decode cX6_take 17 = .ok (.invokevirtual 478, 3) := dk_182 1 222 (dk_at dksX6_take_0 17 rfl rfl)
theorem dX6_take_20 : decode cX6_take 20 = .ok (.goto 8, 3) := dk_167 0 8 (dk_at dksX6_take_0 20 rfl rfl)
theorem dX6_take_23 : decode cX6_take 23 = .ok (.aload_n 0, 1) := dk_42 (dk_at dksX6_take_0 23 rfl rfl)
theorem dX6_take_24 : decode cX6_take 24 = .ok (.iconst 1, 1) := dk_4 (dk_at dksX6_take_1 0 rfl rfl)
theorem dX6_take_25 : decode cX6_take 25 = .ok (.invokevirtual 472, 3) := dk_182 1 216 (dk_at dksX6_take_1 1 rfl rfl)
theorem dX6_take_28 : decode cX6_take 28 = .ok (.ireturn, 1) := dk_172 (dk_at dksX6_take_1 4 rfl rfl)
abbrev cX6_teach : ByteArray := prog_15_method_133_code
def yX6_teach : MethodName := ⟨RX6, "teach", "(II)Z"⟩
def dkwX6_teach_3 : List UInt8 := [182, 1, 219, 172]
abbrev dktX6_teach_3 : List UInt8 := dkwX6_teach_3 ++ []
def dkwX6_teach_2 : List UInt8 := [160, 0, 9, 42, 8, 182, 1, 216, 172, 42, 182, 1, 213, 42, 180, 0, 17, 16, 6, 27, 96, 28, 79, 42]
abbrev dktX6_teach_2 : List UInt8 := dkwX6_teach_2 ++ dktX6_teach_3
def dkwX6_teach_1 : List UInt8 := [184, 0, 128, 154, 0, 9, 42, 5, 182, 1, 216, 172, 42, 180, 0, 17, 16, 6, 27, 96, 46, 28]
abbrev dktX6_teach_1 : List UInt8 := dkwX6_teach_1 ++ dktX6_teach_2
def dkwX6_teach_0 : List UInt8 := [42, 3, 181, 0, 49, 42, 27, 182, 1, 92, 154, 0, 9, 42, 4, 182, 1, 216, 172, 28, 3, 16, 39]
abbrev dktX6_teach_0 : List UInt8 := dkwX6_teach_0 ++ dktX6_teach_1
theorem dksX6_teach_0 : cX6_teach.data.toList.drop 0 = dktX6_teach_0 := by decide +kernel
theorem dksX6_teach_1 : cX6_teach.data.toList.drop 23 = dktX6_teach_1 := dk_seg dksX6_teach_0 23 rfl rfl
theorem dksX6_teach_2 : cX6_teach.data.toList.drop 45 = dktX6_teach_2 := dk_seg dksX6_teach_1 22 rfl rfl
theorem dksX6_teach_3 : cX6_teach.data.toList.drop 69 = dktX6_teach_3 := dk_seg dksX6_teach_2 24 rfl rfl
theorem dX6_teach_0 : decode cX6_teach 0 = .ok (.aload_n 0, 1) := dk_42 (dk_at dksX6_teach_0 0 rfl rfl)
theorem dX6_teach_1 : decode cX6_teach 1 = .ok (.iconst 0, 1) := dk_3 (dk_at dksX6_teach_0 1 rfl rfl)
theorem dX6_teach_2 : decode cX6_teach 2 = .ok (.putfield 49, 3) := dk_181 0 49 (dk_at dksX6_teach_0 2 rfl rfl)
theorem dX6_teach_5 : decode cX6_teach 5 = .ok (.aload_n 0, 1) := dk_42 (dk_at dksX6_teach_0 5 rfl rfl)
theorem dX6_teach_6 : decode cX6_teach 6 = .ok (.iload_n 1, 1) := dk_27 (dk_at dksX6_teach_0 6 rfl rfl)
theorem dX6_teach_7 : decode cX6_teach 7 = .ok (.invokevirtual 348, 3) := dk_182 1 92 (dk_at dksX6_teach_0 7 rfl rfl)
theorem dX6_teach_10 : decode cX6_teach 10 = .ok (.ifCond .ne 9, 3) := dk_154 0 9 (dk_at dksX6_teach_0 10 rfl rfl)
theorem dX6_teach_13 : decode cX6_teach 13 = .ok (.aload_n 0, 1) := dk_42 (dk_at dksX6_teach_0 13 rfl rfl)
theorem dX6_teach_14 : decode cX6_teach 14 = .ok (.iconst 1, 1) := dk_4 (dk_at dksX6_teach_0 14 rfl rfl)
theorem dX6_teach_15 : decode cX6_teach 15 = .ok (.invokevirtual 472, 3) := dk_182 1 216 (dk_at dksX6_teach_0 15 rfl rfl)
theorem dX6_teach_18 : decode cX6_teach 18 = .ok (.ireturn, 1) := dk_172 (dk_at dksX6_teach_0 18 rfl rfl)
theorem dX6_teach_19 : decode cX6_teach 19 = .ok (.iload_n 2, 1) := dk_28 (dk_at dksX6_teach_0 19 rfl rfl)
theorem dX6_teach_20 : decode cX6_teach 20 = .ok (.iconst 0, 1) := dk_3 (dk_at dksX6_teach_0 20 rfl rfl)
theorem dX6_teach_21 : decode cX6_teach 21 = .ok (.bipush 39, 2) := dk_16 39 (dk_at dksX6_teach_0 21 rfl rfl)
theorem dX6_teach_23 : decode cX6_teach 23 = .ok (.invokestatic 128, 3) := dk_184 0 128 (dk_at dksX6_teach_1 0 rfl rfl)
theorem dX6_teach_26 : decode cX6_teach 26 = .ok (.ifCond .ne 9, 3) := dk_154 0 9 (dk_at dksX6_teach_1 3 rfl rfl)
theorem dX6_teach_29 : decode cX6_teach 29 = .ok (.aload_n 0, 1) := dk_42 (dk_at dksX6_teach_1 6 rfl rfl)
theorem dX6_teach_30 : decode cX6_teach 30 = .ok (.iconst 2, 1) := dk_5 (dk_at dksX6_teach_1 7 rfl rfl)
theorem dX6_teach_31 : decode cX6_teach 31 = .ok (.invokevirtual 472, 3) := dk_182 1 216 (dk_at dksX6_teach_1 8 rfl rfl)
theorem dX6_teach_34 : decode cX6_teach 34 = .ok (.ireturn, 1) := dk_172 (dk_at dksX6_teach_1 11 rfl rfl)
theorem dX6_teach_35 : decode cX6_teach 35 = .ok (.aload_n 0, 1) := dk_42 (dk_at dksX6_teach_1 12 rfl rfl)
theorem dX6_teach_36 : decode cX6_teach 36 = .ok (.getfield 17, 3) := dk_180 0 17 (dk_at dksX6_teach_1 13 rfl rfl)
theorem dX6_teach_39 : decode cX6_teach 39 = .ok (.bipush 6, 2) := dk_16 6 (dk_at dksX6_teach_1 16 rfl rfl)
theorem dX6_teach_41 : decode cX6_teach 41 = .ok (.iload_n 1, 1) := dk_27 (dk_at dksX6_teach_1 18 rfl rfl)
theorem dX6_teach_42 : decode cX6_teach 42 = .ok (.iadd, 1) := dk_96 (dk_at dksX6_teach_1 19 rfl rfl)
theorem dX6_teach_43 : decode cX6_teach 43 = .ok (.iaload, 1) := dk_46 (dk_at dksX6_teach_1 20 rfl rfl)
theorem dX6_teach_44 : decode cX6_teach 44 = .ok (.iload_n 2, 1) := dk_28 (dk_at dksX6_teach_1 21 rfl rfl)
theorem dX6_teach_45 : decode cX6_teach 45 = .ok (.if_icmp .ne 9, 3) := dk_160 0 9 (dk_at dksX6_teach_2 0 rfl rfl)
theorem dX6_teach_48 : decode cX6_teach 48 = .ok (.aload_n 0, 1) := dk_42 (dk_at dksX6_teach_2 3 rfl rfl)
theorem dX6_teach_49 : decode cX6_teach 49 = .ok (.iconst 5, 1) := dk_8 (dk_at dksX6_teach_2 4 rfl rfl)
theorem dX6_teach_50 : decode cX6_teach 50 = .ok (.invokevirtual 472, 3) := dk_182 1 216 (dk_at dksX6_teach_2 5 rfl rfl)
theorem dX6_teach_53 : decode cX6_teach 53 = .ok (.ireturn, 1) := dk_172 (dk_at dksX6_teach_2 8 rfl rfl)
theorem dX6_teach_54 : decode cX6_teach 54 = .ok (.aload_n 0, 1) := dk_42 (dk_at dksX6_teach_2 9 rfl rfl)
theorem dX6_teach_55 : decode cX6_teach 55 = .ok (.invokevirtual 469, 3) := dk_182 1 213 (dk_at dksX6_teach_2 10 rfl rfl)
theorem dX6_teach_58 : decode cX6_teach 58 = .ok (.aload_n 0, 1) := dk_42 (dk_at dksX6_teach_2 13 rfl rfl)
theorem dX6_teach_59 : decode cX6_teach 59 = .ok (.getfield 17, 3) := dk_180 0 17 (dk_at dksX6_teach_2 14 rfl rfl)
theorem dX6_teach_62 : decode cX6_teach 62 = .ok (.bipush 6, 2) := dk_16 6 (dk_at dksX6_teach_2 17 rfl rfl)
theorem dX6_teach_64 : decode cX6_teach 64 = .ok (.iload_n 1, 1) := dk_27 (dk_at dksX6_teach_2 19 rfl rfl)
theorem dX6_teach_65 : decode cX6_teach 65 = .ok (.iadd, 1) := dk_96 (dk_at dksX6_teach_2 20 rfl rfl)
theorem dX6_teach_66 : decode cX6_teach 66 = .ok (.iload_n 2, 1) := dk_28 (dk_at dksX6_teach_2 21 rfl rfl)
theorem dX6_teach_67 : decode cX6_teach 67 = .ok (.iastore, 1) := dk_79 (dk_at dksX6_teach_2 22 rfl rfl)
theorem dX6_teach_68 : decode cX6_teach 68 = .ok (.aload_n 0, 1) := dk_42 (dk_at dksX6_teach_2 23 rfl rfl)
theorem dX6_teach_69 : decode cX6_teach 69 = .ok (.invokevirtual 475, 3) := dk_182 1 219 (dk_at dksX6_teach_3 0 rfl rfl)
theorem dX6_teach_72 : decode cX6_teach 72 = .ok (.ireturn, 1) := dk_172 (dk_at dksX6_teach_3 3 rfl rfl)
abbrev cX6_undo : ByteArray := prog_15_method_134_code
def yX6_undo : MethodName := ⟨RX6, "undo", "()Z"⟩
def dkwX6_undo_3 : List UInt8 := [167, 255, 227, 42, 182, 1, 219, 172]
abbrev dktX6_undo_3 : List UInt8 := dkwX6_undo_3 ++ []
def dkwX6_undo_2 : List UInt8 := [180, 0, 17, 27, 42, 180, 0, 24, 16, 19, 42, 180, 1, 52, 104, 27, 96, 46, 79, 132, 1, 1]
abbrev dktX6_undo_2 : List UInt8 := dkwX6_undo_2 ++ dktX6_undo_3
def dkwX6_undo_1 : List UInt8 := [182, 1, 216, 172, 42, 89, 180, 1, 52, 4, 100, 181, 1, 52, 3, 60, 27, 16, 19, 162, 0, 29, 42]
abbrev dktX6_undo_1 : List UInt8 := dkwX6_undo_1 ++ dktX6_undo_2
def dkwX6_undo_0 : List UInt8 := [42, 3, 181, 0, 49, 42, 180, 1, 47, 198, 0, 10, 42, 180, 1, 52, 154, 0, 10, 42, 16, 6]
abbrev dktX6_undo_0 : List UInt8 := dkwX6_undo_0 ++ dktX6_undo_1
theorem dksX6_undo_0 : cX6_undo.data.toList.drop 0 = dktX6_undo_0 := by decide +kernel
theorem dksX6_undo_1 : cX6_undo.data.toList.drop 22 = dktX6_undo_1 := dk_seg dksX6_undo_0 22 rfl rfl
theorem dksX6_undo_2 : cX6_undo.data.toList.drop 45 = dktX6_undo_2 := dk_seg dksX6_undo_1 23 rfl rfl
theorem dksX6_undo_3 : cX6_undo.data.toList.drop 67 = dktX6_undo_3 := dk_seg dksX6_undo_2 22 rfl rfl
theorem dX6_undo_0 : decode cX6_undo 0 = .ok (.aload_n 0, 1) := dk_42 (dk_at dksX6_undo_0 0 rfl rfl)
theorem dX6_undo_1 : decode cX6_undo 1 = .ok (.iconst 0, 1) := dk_3 (dk_at dksX6_undo_0 1 rfl rfl)
theorem dX6_undo_2 : decode cX6_undo 2 = .ok (.putfield 49, 3) := dk_181 0 49 (dk_at dksX6_undo_0 2 rfl rfl)
theorem dX6_undo_5 : decode cX6_undo 5 = .ok (.aload_n 0, 1) := dk_42 (dk_at dksX6_undo_0 5 rfl rfl)
theorem dX6_undo_6 : decode cX6_undo 6 = .ok (.getfield 303, 3) := dk_180 1 47 (dk_at dksX6_undo_0 6 rfl rfl)
theorem dX6_undo_9 : decode cX6_undo 9 = .ok (.ifnull 10, 3) := dk_198 0 10 (dk_at dksX6_undo_0 9 rfl rfl)
theorem dX6_undo_12 : decode cX6_undo 12 = .ok (.aload_n 0, 1) := dk_42 (dk_at dksX6_undo_0 12 rfl rfl)
theorem dX6_undo_13 : decode cX6_undo 13 = .ok (.getfield 308, 3) := dk_180 1 52 (dk_at dksX6_undo_0 13 rfl rfl)
theorem dX6_undo_16 : decode cX6_undo 16 = .ok (.ifCond .ne 10, 3) := dk_154 0 10 (dk_at dksX6_undo_0 16 rfl rfl)
theorem dX6_undo_19 : decode cX6_undo 19 = .ok (.aload_n 0, 1) := dk_42 (dk_at dksX6_undo_0 19 rfl rfl)
theorem dX6_undo_20 : decode cX6_undo 20 = .ok (.bipush 6, 2) := dk_16 6 (dk_at dksX6_undo_0 20 rfl rfl)
theorem dX6_undo_22 : decode cX6_undo 22 = .ok (.invokevirtual 472, 3) := dk_182 1 216 (dk_at dksX6_undo_1 0 rfl rfl)
theorem dX6_undo_25 : decode cX6_undo 25 = .ok (.ireturn, 1) := dk_172 (dk_at dksX6_undo_1 3 rfl rfl)
theorem dX6_undo_26 : decode cX6_undo 26 = .ok (.aload_n 0, 1) := dk_42 (dk_at dksX6_undo_1 4 rfl rfl)
theorem dX6_undo_27 : decode cX6_undo 27 = .ok (.dup, 1) := dk_89 (dk_at dksX6_undo_1 5 rfl rfl)
theorem dX6_undo_28 : decode cX6_undo 28 = .ok (.getfield 308, 3) := dk_180 1 52 (dk_at dksX6_undo_1 6 rfl rfl)
theorem dX6_undo_31 : decode cX6_undo 31 = .ok (.iconst 1, 1) := dk_4 (dk_at dksX6_undo_1 9 rfl rfl)
theorem dX6_undo_32 : decode cX6_undo 32 = .ok (.isub, 1) := dk_100 (dk_at dksX6_undo_1 10 rfl rfl)
theorem dX6_undo_33 : decode cX6_undo 33 = .ok (.putfield 308, 3) := dk_181 1 52 (dk_at dksX6_undo_1 11 rfl rfl)
theorem dX6_undo_36 : decode cX6_undo 36 = .ok (.iconst 0, 1) := dk_3 (dk_at dksX6_undo_1 14 rfl rfl)
theorem dX6_undo_37 : decode cX6_undo 37 = .ok (.istore_n 1, 1) := dk_60 (dk_at dksX6_undo_1 15 rfl rfl)
theorem dX6_undo_38 : decode cX6_undo 38 = .ok (.iload_n 1, 1) := dk_27 (dk_at dksX6_undo_1 16 rfl rfl)
theorem dX6_undo_39 : decode cX6_undo 39 = .ok (.bipush 19, 2) := dk_16 19 (dk_at dksX6_undo_1 17 rfl rfl)
theorem dX6_undo_41 : decode cX6_undo 41 = .ok (.if_icmp .ge 29, 3) := dk_162 0 29 (dk_at dksX6_undo_1 19 rfl rfl)
theorem dX6_undo_44 : decode cX6_undo 44 = .ok (.aload_n 0, 1) := dk_42 (dk_at dksX6_undo_1 22 rfl rfl)
theorem dX6_undo_45 : decode cX6_undo 45 = .ok (.getfield 17, 3) := dk_180 0 17 (dk_at dksX6_undo_2 0 rfl rfl)
theorem dX6_undo_48 : decode cX6_undo 48 = .ok (.iload_n 1, 1) := dk_27 (dk_at dksX6_undo_2 3 rfl rfl)
theorem dX6_undo_49 : decode cX6_undo 49 = .ok (.aload_n 0, 1) := dk_42 (dk_at dksX6_undo_2 4 rfl rfl)
theorem dX6_undo_50 : decode cX6_undo 50 = .ok (.getfield 24, 3) := dk_180 0 24 (dk_at dksX6_undo_2 5 rfl rfl)
theorem dX6_undo_53 : decode cX6_undo 53 = .ok (.bipush 19, 2) := dk_16 19 (dk_at dksX6_undo_2 8 rfl rfl)
theorem dX6_undo_55 : decode cX6_undo 55 = .ok (.aload_n 0, 1) := dk_42 (dk_at dksX6_undo_2 10 rfl rfl)
theorem dX6_undo_56 : decode cX6_undo 56 = .ok (.getfield 308, 3) := dk_180 1 52 (dk_at dksX6_undo_2 11 rfl rfl)
theorem dX6_undo_59 : decode cX6_undo 59 = .ok (.imul, 1) := dk_104 (dk_at dksX6_undo_2 14 rfl rfl)
theorem dX6_undo_60 : decode cX6_undo 60 = .ok (.iload_n 1, 1) := dk_27 (dk_at dksX6_undo_2 15 rfl rfl)
theorem dX6_undo_61 : decode cX6_undo 61 = .ok (.iadd, 1) := dk_96 (dk_at dksX6_undo_2 16 rfl rfl)
theorem dX6_undo_62 : decode cX6_undo 62 = .ok (.iaload, 1) := dk_46 (dk_at dksX6_undo_2 17 rfl rfl)
theorem dX6_undo_63 : decode cX6_undo 63 = .ok (.iastore, 1) := dk_79 (dk_at dksX6_undo_2 18 rfl rfl)
theorem dX6_undo_64 : decode cX6_undo 64 = .ok (.iinc 1 1, 3) := dk_132 1 1 (dk_at dksX6_undo_2 19 rfl rfl)
theorem dX6_undo_67 : decode cX6_undo 67 = .ok (.goto (-29), 3) := dk_167 255 227 (dk_at dksX6_undo_3 0 rfl rfl)
theorem dX6_undo_70 : decode cX6_undo 70 = .ok (.aload_n 0, 1) := dk_42 (dk_at dksX6_undo_3 3 rfl rfl)
theorem dX6_undo_71 : decode cX6_undo 71 = .ok (.invokevirtual 475, 3) := dk_182 1 219 (dk_at dksX6_undo_3 4 rfl rfl)
theorem dX6_undo_74 : decode cX6_undo 74 = .ok (.ireturn, 1) := dk_172 (dk_at dksX6_undo_3 7 rfl rfl)
abbrev cX6_image : ByteArray := prog_15_method_135_code
def yX6_image : MethodName := ⟨RX6, "image", "()I"⟩
def dkwX6_image_3 : List UInt8 := [4, 96, 181, 1, 55, 42, 42, 180, 1, 55, 4, 100, 182, 0, 59, 172]
abbrev dktX6_image_3 : List UInt8 := dkwX6_image_3 ++ []
def dkwX6_image_2 : List UInt8 := [180, 1, 55, 104, 27, 96, 42, 180, 0, 17, 27, 46, 79, 132, 1, 1, 167, 255, 227, 42, 89, 180, 1, 55]
abbrev dktX6_image_2 : List UInt8 := dkwX6_image_2 ++ dktX6_image_3
def dkwX6_image_1 : List UInt8 := [160, 0, 9, 42, 6, 182, 0, 55, 172, 3, 60, 27, 16, 19, 162, 0, 29, 42, 180, 0, 27, 16, 19, 42]
abbrev dktX6_image_1 : List UInt8 := dkwX6_image_1 ++ dktX6_image_2
def dkwX6_image_0 : List UInt8 := [42, 3, 181, 0, 49, 42, 180, 1, 47, 199, 0, 9, 42, 4, 182, 0, 55, 172, 42, 180, 1, 55, 6]
abbrev dktX6_image_0 : List UInt8 := dkwX6_image_0 ++ dktX6_image_1
theorem dksX6_image_0 : cX6_image.data.toList.drop 0 = dktX6_image_0 := by decide +kernel
theorem dksX6_image_1 : cX6_image.data.toList.drop 23 = dktX6_image_1 := dk_seg dksX6_image_0 23 rfl rfl
theorem dksX6_image_2 : cX6_image.data.toList.drop 47 = dktX6_image_2 := dk_seg dksX6_image_1 24 rfl rfl
theorem dksX6_image_3 : cX6_image.data.toList.drop 71 = dktX6_image_3 := dk_seg dksX6_image_2 24 rfl rfl
theorem dX6_image_0 : decode cX6_image 0 = .ok (.aload_n 0, 1) := dk_42 (dk_at dksX6_image_0 0 rfl rfl)
theorem dX6_image_1 : decode cX6_image 1 = .ok (.iconst 0, 1) := dk_3 (dk_at dksX6_image_0 1 rfl rfl)
theorem dX6_image_2 : decode cX6_image 2 = .ok (.putfield 49, 3) := dk_181 0 49 (dk_at dksX6_image_0 2 rfl rfl)
theorem dX6_image_5 : decode cX6_image 5 = .ok (.aload_n 0, 1) := dk_42 (dk_at dksX6_image_0 5 rfl rfl)
theorem dX6_image_6 : decode cX6_image 6 = .ok (.getfield 303, 3) := dk_180 1 47 (dk_at dksX6_image_0 6 rfl rfl)
theorem dX6_image_9 : decode cX6_image 9 = .ok (.ifnonnull 9, 3) := dk_199 0 9 (dk_at dksX6_image_0 9 rfl rfl)
theorem dX6_image_12 : decode cX6_image 12 = .ok (.aload_n 0, 1) := dk_42 (dk_at dksX6_image_0 12 rfl rfl)
theorem dX6_image_13 : decode cX6_image 13 = .ok (.iconst 1, 1) := dk_4 (dk_at dksX6_image_0 13 rfl rfl)
theorem dX6_image_14 : decode cX6_image 14 = .ok (.invokevirtual 55, 3) := dk_182 0 55 (dk_at dksX6_image_0 14 rfl rfl)
theorem dX6_image_17 : decode cX6_image 17 = .ok (.ireturn, 1) := dk_172 (dk_at dksX6_image_0 17 rfl rfl)
theorem dX6_image_18 : decode cX6_image 18 = .ok (.aload_n 0, 1) := dk_42 (dk_at dksX6_image_0 18 rfl rfl)
theorem dX6_image_19 : decode cX6_image 19 = .ok (.getfield 311, 3) := dk_180 1 55 (dk_at dksX6_image_0 19 rfl rfl)
theorem dX6_image_22 : decode cX6_image 22 = .ok (.iconst 3, 1) := dk_6 (dk_at dksX6_image_0 22 rfl rfl)
theorem dX6_image_23 : decode cX6_image 23 = .ok (.if_icmp .ne 9, 3) := dk_160 0 9 (dk_at dksX6_image_1 0 rfl rfl)
theorem dX6_image_26 : decode cX6_image 26 = .ok (.aload_n 0, 1) := dk_42 (dk_at dksX6_image_1 3 rfl rfl)
theorem dX6_image_27 : decode cX6_image 27 = .ok (.iconst 3, 1) := dk_6 (dk_at dksX6_image_1 4 rfl rfl)
theorem dX6_image_28 : decode cX6_image 28 = .ok (.invokevirtual 55, 3) := dk_182 0 55 (dk_at dksX6_image_1 5 rfl rfl)
theorem dX6_image_31 : decode cX6_image 31 = .ok (.ireturn, 1) := dk_172 (dk_at dksX6_image_1 8 rfl rfl)
theorem dX6_image_32 : decode cX6_image 32 = .ok (.iconst 0, 1) := dk_3 (dk_at dksX6_image_1 9 rfl rfl)
theorem dX6_image_33 : decode cX6_image 33 = .ok (.istore_n 1, 1) := dk_60 (dk_at dksX6_image_1 10 rfl rfl)
theorem dX6_image_34 : decode cX6_image 34 = .ok (.iload_n 1, 1) := dk_27 (dk_at dksX6_image_1 11 rfl rfl)
theorem dX6_image_35 : decode cX6_image 35 = .ok (.bipush 19, 2) := dk_16 19 (dk_at dksX6_image_1 12 rfl rfl)
theorem dX6_image_37 : decode cX6_image 37 = .ok (.if_icmp .ge 29, 3) := dk_162 0 29 (dk_at dksX6_image_1 14 rfl rfl)
theorem dX6_image_40 : decode cX6_image 40 = .ok (.aload_n 0, 1) := dk_42 (dk_at dksX6_image_1 17 rfl rfl)
theorem dX6_image_41 : decode cX6_image 41 = .ok (.getfield 27, 3) := dk_180 0 27 (dk_at dksX6_image_1 18 rfl rfl)
theorem dX6_image_44 : decode cX6_image 44 = .ok (.bipush 19, 2) := dk_16 19 (dk_at dksX6_image_1 21 rfl rfl)
theorem dX6_image_46 : decode cX6_image 46 = .ok (.aload_n 0, 1) := dk_42 (dk_at dksX6_image_1 23 rfl rfl)
theorem dX6_image_47 : decode cX6_image 47 = .ok (.getfield 311, 3) := dk_180 1 55 (dk_at dksX6_image_2 0 rfl rfl)
theorem dX6_image_50 : decode cX6_image 50 = .ok (.imul, 1) := dk_104 (dk_at dksX6_image_2 3 rfl rfl)
theorem dX6_image_51 : decode cX6_image 51 = .ok (.iload_n 1, 1) := dk_27 (dk_at dksX6_image_2 4 rfl rfl)
theorem dX6_image_52 : decode cX6_image 52 = .ok (.iadd, 1) := dk_96 (dk_at dksX6_image_2 5 rfl rfl)
theorem dX6_image_53 : decode cX6_image 53 = .ok (.aload_n 0, 1) := dk_42 (dk_at dksX6_image_2 6 rfl rfl)
theorem dX6_image_54 : decode cX6_image 54 = .ok (.getfield 17, 3) := dk_180 0 17 (dk_at dksX6_image_2 7 rfl rfl)
theorem dX6_image_57 : decode cX6_image 57 = .ok (.iload_n 1, 1) := dk_27 (dk_at dksX6_image_2 10 rfl rfl)
theorem dX6_image_58 : decode cX6_image 58 = .ok (.iaload, 1) := dk_46 (dk_at dksX6_image_2 11 rfl rfl)
theorem dX6_image_59 : decode cX6_image 59 = .ok (.iastore, 1) := dk_79 (dk_at dksX6_image_2 12 rfl rfl)
theorem dX6_image_60 : decode cX6_image 60 = .ok (.iinc 1 1, 3) := dk_132 1 1 (dk_at dksX6_image_2 13 rfl rfl)
theorem dX6_image_63 : decode cX6_image 63 = .ok (.goto (-29), 3) := dk_167 255 227 (dk_at dksX6_image_2 16 rfl rfl)
theorem dX6_image_66 : decode cX6_image 66 = .ok (.aload_n 0, 1) := dk_42 (dk_at dksX6_image_2 19 rfl rfl)
theorem dX6_image_67 : decode cX6_image 67 = .ok (.dup, 1) := dk_89 (dk_at dksX6_image_2 20 rfl rfl)
theorem dX6_image_68 : decode cX6_image 68 = .ok (.getfield 311, 3) := dk_180 1 55 (dk_at dksX6_image_2 21 rfl rfl)
theorem dX6_image_71 : decode cX6_image 71 = .ok (.iconst 1, 1) := dk_4 (dk_at dksX6_image_3 0 rfl rfl)
theorem dX6_image_72 : decode cX6_image 72 = .ok (.iadd, 1) := dk_96 (dk_at dksX6_image_3 1 rfl rfl)
theorem dX6_image_73 : decode cX6_image 73 = .ok (.putfield 311, 3) := dk_181 1 55 (dk_at dksX6_image_3 2 rfl rfl)
theorem dX6_image_76 : decode cX6_image 76 = .ok (.aload_n 0, 1) := dk_42 (dk_at dksX6_image_3 5 rfl rfl)
theorem dX6_image_77 : decode cX6_image 77 = .ok (.aload_n 0, 1) := dk_42 (dk_at dksX6_image_3 6 rfl rfl)
theorem dX6_image_78 : decode cX6_image 78 = .ok (.getfield 311, 3) := dk_180 1 55 (dk_at dksX6_image_3 7 rfl rfl)
theorem dX6_image_81 : decode cX6_image 81 = .ok (.iconst 1, 1) := dk_4 (dk_at dksX6_image_3 10 rfl rfl)
theorem dX6_image_82 : decode cX6_image 82 = .ok (.isub, 1) := dk_100 (dk_at dksX6_image_3 11 rfl rfl)
theorem dX6_image_83 : decode cX6_image 83 = .ok (.invokevirtual 59, 3) := dk_182 0 59 (dk_at dksX6_image_3 12 rfl rfl)
theorem dX6_image_86 : decode cX6_image 86 = .ok (.ireturn, 1) := dk_172 (dk_at dksX6_image_3 15 rfl rfl)
abbrev cX6_back : ByteArray := prog_15_method_136_code
def yX6_back : MethodName := ⟨RX6, "back", "(I)Z"⟩
def dkwX6_back_2 : List UInt8 := [16, 19, 27, 104, 28, 96, 46, 79, 132, 2, 1, 167, 255, 230, 42, 3, 181, 1, 52, 42, 182, 1, 219, 172]
abbrev dktX6_back_2 : List UInt8 := dkwX6_back_2 ++ []
def dkwX6_back_1 : List UInt8 := [42, 4, 182, 1, 216, 172, 3, 61, 28, 16, 19, 162, 0, 26, 42, 180, 0, 17, 28, 42, 180, 0, 27]
abbrev dktX6_back_1 : List UInt8 := dkwX6_back_1 ++ dktX6_back_2
def dkwX6_back_0 : List UInt8 := [42, 3, 181, 0, 49, 42, 180, 1, 47, 198, 0, 15, 27, 155, 0, 11, 27, 42, 180, 1, 55, 161, 0, 9]
abbrev dktX6_back_0 : List UInt8 := dkwX6_back_0 ++ dktX6_back_1
theorem dksX6_back_0 : cX6_back.data.toList.drop 0 = dktX6_back_0 := by decide +kernel
theorem dksX6_back_1 : cX6_back.data.toList.drop 24 = dktX6_back_1 := dk_seg dksX6_back_0 24 rfl rfl
theorem dksX6_back_2 : cX6_back.data.toList.drop 47 = dktX6_back_2 := dk_seg dksX6_back_1 23 rfl rfl
theorem dX6_back_0 : decode cX6_back 0 = .ok (.aload_n 0, 1) := dk_42 (dk_at dksX6_back_0 0 rfl rfl)
theorem dX6_back_1 : decode cX6_back 1 = .ok (.iconst 0, 1) := dk_3 (dk_at dksX6_back_0 1 rfl rfl)
theorem dX6_back_2 : decode cX6_back 2 = .ok (.putfield 49, 3) := dk_181 0 49 (dk_at dksX6_back_0 2 rfl rfl)
theorem dX6_back_5 : decode cX6_back 5 = .ok (.aload_n 0, 1) := dk_42 (dk_at dksX6_back_0 5 rfl rfl)
theorem dX6_back_6 : decode cX6_back 6 = .ok (.getfield 303, 3) := dk_180 1 47 (dk_at dksX6_back_0 6 rfl rfl)
theorem dX6_back_9 : decode cX6_back 9 = .ok (.ifnull 15, 3) := dk_198 0 15 (dk_at dksX6_back_0 9 rfl rfl)
theorem dX6_back_12 : decode cX6_back 12 = .ok (.iload_n 1, 1) := dk_27 (dk_at dksX6_back_0 12 rfl rfl)
theorem dX6_back_13 : decode cX6_back 13 = .ok (.ifCond .lt 11, 3) := dk_155 0 11 (dk_at dksX6_back_0 13 rfl rfl)
theorem dX6_back_16 : decode cX6_back 16 = .ok (.iload_n 1, 1) := dk_27 (dk_at dksX6_back_0 16 rfl rfl)
theorem dX6_back_17 : decode cX6_back 17 = .ok (.aload_n 0, 1) := dk_42 (dk_at dksX6_back_0 17 rfl rfl)
theorem dX6_back_18 : decode cX6_back 18 = .ok (.getfield 311, 3) := dk_180 1 55 (dk_at dksX6_back_0 18 rfl rfl)
theorem dX6_back_21 : decode cX6_back 21 = .ok (.if_icmp .lt 9, 3) := dk_161 0 9 (dk_at dksX6_back_0 21 rfl rfl)
theorem dX6_back_24 : decode cX6_back 24 = .ok (.aload_n 0, 1) := dk_42 (dk_at dksX6_back_1 0 rfl rfl)
theorem dX6_back_25 : decode cX6_back 25 = .ok (.iconst 1, 1) := dk_4 (dk_at dksX6_back_1 1 rfl rfl)
theorem dX6_back_26 : decode cX6_back 26 = .ok (.invokevirtual 472, 3) := dk_182 1 216 (dk_at dksX6_back_1 2 rfl rfl)
theorem dX6_back_29 : decode cX6_back 29 = .ok (.ireturn, 1) := dk_172 (dk_at dksX6_back_1 5 rfl rfl)
theorem dX6_back_30 : decode cX6_back 30 = .ok (.iconst 0, 1) := dk_3 (dk_at dksX6_back_1 6 rfl rfl)
theorem dX6_back_31 : decode cX6_back 31 = .ok (.istore_n 2, 1) := dk_61 (dk_at dksX6_back_1 7 rfl rfl)
theorem dX6_back_32 : decode cX6_back 32 = .ok (.iload_n 2, 1) := dk_28 (dk_at dksX6_back_1 8 rfl rfl)
theorem dX6_back_33 : decode cX6_back 33 = .ok (.bipush 19, 2) := dk_16 19 (dk_at dksX6_back_1 9 rfl rfl)
theorem dX6_back_35 : decode cX6_back 35 = .ok (.if_icmp .ge 26, 3) := dk_162 0 26 (dk_at dksX6_back_1 11 rfl rfl)
theorem dX6_back_38 : decode cX6_back 38 = .ok (.aload_n 0, 1) := dk_42 (dk_at dksX6_back_1 14 rfl rfl)
theorem dX6_back_39 : decode cX6_back 39 = .ok (.getfield 17, 3) := dk_180 0 17 (dk_at dksX6_back_1 15 rfl rfl)
theorem dX6_back_42 : decode cX6_back 42 = .ok (.iload_n 2, 1) := dk_28 (dk_at dksX6_back_1 18 rfl rfl)
theorem dX6_back_43 : decode cX6_back 43 = .ok (.aload_n 0, 1) := dk_42 (dk_at dksX6_back_1 19 rfl rfl)
theorem dX6_back_44 : decode cX6_back 44 = .ok (.getfield 27, 3) := dk_180 0 27 (dk_at dksX6_back_1 20 rfl rfl)
theorem dX6_back_47 : decode cX6_back 47 = .ok (.bipush 19, 2) := dk_16 19 (dk_at dksX6_back_2 0 rfl rfl)
theorem dX6_back_49 : decode cX6_back 49 = .ok (.iload_n 1, 1) := dk_27 (dk_at dksX6_back_2 2 rfl rfl)
theorem dX6_back_50 : decode cX6_back 50 = .ok (.imul, 1) := dk_104 (dk_at dksX6_back_2 3 rfl rfl)
theorem dX6_back_51 : decode cX6_back 51 = .ok (.iload_n 2, 1) := dk_28 (dk_at dksX6_back_2 4 rfl rfl)
theorem dX6_back_52 : decode cX6_back 52 = .ok (.iadd, 1) := dk_96 (dk_at dksX6_back_2 5 rfl rfl)
theorem dX6_back_53 : decode cX6_back 53 = .ok (.iaload, 1) := dk_46 (dk_at dksX6_back_2 6 rfl rfl)
theorem dX6_back_54 : decode cX6_back 54 = .ok (.iastore, 1) := dk_79 (dk_at dksX6_back_2 7 rfl rfl)
theorem dX6_back_55 : decode cX6_back 55 = .ok (.iinc 2 1, 3) := dk_132 2 1 (dk_at dksX6_back_2 8 rfl rfl)
theorem dX6_back_58 : decode cX6_back 58 = .ok (.goto (-26), 3) := dk_167 255 230 (dk_at dksX6_back_2 11 rfl rfl)
theorem dX6_back_61 : decode cX6_back 61 = .ok (.aload_n 0, 1) := dk_42 (dk_at dksX6_back_2 14 rfl rfl)
theorem dX6_back_62 : decode cX6_back 62 = .ok (.iconst 0, 1) := dk_3 (dk_at dksX6_back_2 15 rfl rfl)
theorem dX6_back_63 : decode cX6_back 63 = .ok (.putfield 308, 3) := dk_181 1 52 (dk_at dksX6_back_2 16 rfl rfl)
theorem dX6_back_66 : decode cX6_back 66 = .ok (.aload_n 0, 1) := dk_42 (dk_at dksX6_back_2 19 rfl rfl)
theorem dX6_back_67 : decode cX6_back 67 = .ok (.invokevirtual 475, 3) := dk_182 1 219 (dk_at dksX6_back_2 20 rfl rfl)
theorem dX6_back_70 : decode cX6_back 70 = .ok (.ireturn, 1) := dk_172 (dk_at dksX6_back_2 23 rfl rfl)
abbrev cX6_led : ByteArray := prog_15_method_137_code
def yX6_led : MethodName := ⟨RX6, "led", "(I)I"⟩
def dkwX6_led_3 : List UInt8 := [167, 255, 207, 42, 4, 181, 0, 49, 3, 172]
abbrev dktX6_led_3 : List UInt8 := dkwX6_led_3 ++ []
def dkwX6_led_2 : List UInt8 := [182, 1, 80, 153, 0, 6, 167, 0, 13, 28, 27, 160, 0, 5, 29, 172, 132, 2, 1, 132, 3, 1]
abbrev dktX6_led_2 : List UInt8 := dkwX6_led_2 ++ dktX6_led_3
def dkwX6_led_1 : List UInt8 := [198, 0, 48, 29, 42, 180, 1, 47, 180, 0, 241, 162, 0, 37, 42, 29, 42, 180, 0, 17, 16, 18, 46]
abbrev dktX6_led_1 : List UInt8 := dkwX6_led_1 ++ dktX6_led_2
def dkwX6_led_0 : List UInt8 := [42, 3, 181, 0, 49, 3, 61, 42, 180, 1, 47, 198, 0, 7, 42, 182, 1, 86, 3, 62, 42, 180, 1, 47]
abbrev dktX6_led_0 : List UInt8 := dkwX6_led_0 ++ dktX6_led_1
theorem dksX6_led_0 : cX6_led.data.toList.drop 0 = dktX6_led_0 := by decide +kernel
theorem dksX6_led_1 : cX6_led.data.toList.drop 24 = dktX6_led_1 := dk_seg dksX6_led_0 24 rfl rfl
theorem dksX6_led_2 : cX6_led.data.toList.drop 47 = dktX6_led_2 := dk_seg dksX6_led_1 23 rfl rfl
theorem dksX6_led_3 : cX6_led.data.toList.drop 69 = dktX6_led_3 := dk_seg dksX6_led_2 22 rfl rfl
theorem dX6_led_0 : decode cX6_led 0 = .ok (.aload_n 0, 1) := dk_42 (dk_at dksX6_led_0 0 rfl rfl)
theorem dX6_led_1 : decode cX6_led 1 = .ok (.iconst 0, 1) := dk_3 (dk_at dksX6_led_0 1 rfl rfl)
theorem dX6_led_2 : decode cX6_led 2 = .ok (.putfield 49, 3) := dk_181 0 49 (dk_at dksX6_led_0 2 rfl rfl)
theorem dX6_led_5 : decode cX6_led 5 = .ok (.iconst 0, 1) := dk_3 (dk_at dksX6_led_0 5 rfl rfl)
theorem dX6_led_6 : decode cX6_led 6 = .ok (.istore_n 2, 1) := dk_61 (dk_at dksX6_led_0 6 rfl rfl)
theorem dX6_led_7 : decode cX6_led 7 = .ok (.aload_n 0, 1) := dk_42 (dk_at dksX6_led_0 7 rfl rfl)
theorem dX6_led_8 : decode cX6_led 8 = .ok (.getfield 303, 3) := dk_180 1 47 (dk_at dksX6_led_0 8 rfl rfl)
theorem dX6_led_11 : decode cX6_led 11 = .ok (.ifnull 7, 3) := dk_198 0 7 (dk_at dksX6_led_0 11 rfl rfl)
theorem dX6_led_14 : decode cX6_led 14 = .ok (.aload_n 0, 1) := dk_42 (dk_at dksX6_led_0 14 rfl rfl)
theorem dX6_led_15 : decode cX6_led 15 = .ok (.invokevirtual 342, 3) := dk_182 1 86 (dk_at dksX6_led_0 15 rfl rfl)
theorem dX6_led_18 : decode cX6_led 18 = .ok (.iconst 0, 1) := dk_3 (dk_at dksX6_led_0 18 rfl rfl)
theorem dX6_led_19 : decode cX6_led 19 = .ok (.istore_n 3, 1) := dk_62 (dk_at dksX6_led_0 19 rfl rfl)
theorem dX6_led_20 : decode cX6_led 20 = .ok (.aload_n 0, 1) := dk_42 (dk_at dksX6_led_0 20 rfl rfl)
theorem dX6_led_21 : decode cX6_led 21 = .ok (.getfield 303, 3) := dk_180 1 47 (dk_at dksX6_led_0 21 rfl rfl)
theorem dX6_led_24 : decode cX6_led 24 = .ok (.ifnull 48, 3) := dk_198 0 48 (dk_at dksX6_led_1 0 rfl rfl)
theorem dX6_led_27 : decode cX6_led 27 = .ok (.iload_n 3, 1) := dk_29 (dk_at dksX6_led_1 3 rfl rfl)
theorem dX6_led_28 : decode cX6_led 28 = .ok (.aload_n 0, 1) := dk_42 (dk_at dksX6_led_1 4 rfl rfl)
theorem dX6_led_29 : decode cX6_led 29 = .ok (.getfield 303, 3) := dk_180 1 47 (dk_at dksX6_led_1 5 rfl rfl)
theorem dX6_led_32 : decode cX6_led 32 = .ok (.getfield 241, 3) := dk_180 0 241 (dk_at dksX6_led_1 8 rfl rfl)
theorem dX6_led_35 : decode cX6_led 35 = .ok (.if_icmp .ge 37, 3) := dk_162 0 37 (dk_at dksX6_led_1 11 rfl rfl)
theorem dX6_led_38 : decode cX6_led 38 = .ok (.aload_n 0, 1) := dk_42 (dk_at dksX6_led_1 14 rfl rfl)
theorem dX6_led_39 : decode cX6_led 39 = .ok (.iload_n 3, 1) := dk_29 (dk_at dksX6_led_1 15 rfl rfl)
theorem dX6_led_40 : decode cX6_led 40 = .ok (.aload_n 0, 1) := dk_42 (dk_at dksX6_led_1 16 rfl rfl)
theorem dX6_led_41 : decode cX6_led 41 = .ok (.getfield 17, 3) := dk_180 0 17 (dk_at dksX6_led_1 17 rfl rfl)
theorem dX6_led_44 : decode cX6_led 44 = .ok (.bipush 18, 2) := dk_16 18 (dk_at dksX6_led_1 20 rfl rfl)
theorem dX6_led_46 : decode cX6_led 46 = .ok (.iaload, 1) := dk_46 (dk_at dksX6_led_1 22 rfl rfl)
theorem dX6_led_47 : decode cX6_led 47 = .ok (.invokevirtual 336, 3) := dk_182 1 80 (dk_at dksX6_led_2 0 rfl rfl)
theorem dX6_led_50 : decode cX6_led 50 = .ok (.ifCond .eq 6, 3) := dk_153 0 6 (dk_at dksX6_led_2 3 rfl rfl)
theorem dX6_led_53 : decode cX6_led 53 = .ok (.goto 13, 3) := dk_167 0 13 (dk_at dksX6_led_2 6 rfl rfl)
theorem dX6_led_56 : decode cX6_led 56 = .ok (.iload_n 2, 1) := dk_28 (dk_at dksX6_led_2 9 rfl rfl)
theorem dX6_led_57 : decode cX6_led 57 = .ok (.iload_n 1, 1) := dk_27 (dk_at dksX6_led_2 10 rfl rfl)
theorem dX6_led_58 : decode cX6_led 58 = .ok (.if_icmp .ne 5, 3) := dk_160 0 5 (dk_at dksX6_led_2 11 rfl rfl)
theorem dX6_led_61 : decode cX6_led 61 = .ok (.iload_n 3, 1) := dk_29 (dk_at dksX6_led_2 14 rfl rfl)
theorem dX6_led_62 : decode cX6_led 62 = .ok (.ireturn, 1) := dk_172 (dk_at dksX6_led_2 15 rfl rfl)
theorem dX6_led_63 : decode cX6_led 63 = .ok (.iinc 2 1, 3) := dk_132 2 1 (dk_at dksX6_led_2 16 rfl rfl)
theorem dX6_led_66 : decode cX6_led 66 = .ok (.iinc 3 1, 3) := dk_132 3 1 (dk_at dksX6_led_2 19 rfl rfl)
theorem dX6_led_69 : decode cX6_led 69 = .ok (.goto (-49), 3) := dk_167 255 207 (dk_at dksX6_led_3 0 rfl rfl)
theorem dX6_led_72 : decode cX6_led 72 = .ok (.aload_n 0, 1) := dk_42 (dk_at dksX6_led_3 3 rfl rfl)
theorem dX6_led_73 : decode cX6_led 73 = .ok (.iconst 1, 1) := dk_4 (dk_at dksX6_led_3 4 rfl rfl)
theorem dX6_led_74 : decode cX6_led 74 = .ok (.putfield 49, 3) := dk_181 0 49 (dk_at dksX6_led_3 5 rfl rfl)
theorem dX6_led_77 : decode cX6_led 77 = .ok (.iconst 0, 1) := dk_3 (dk_at dksX6_led_3 8 rfl rfl)
theorem dX6_led_78 : decode cX6_led 78 = .ok (.ireturn, 1) := dk_172 (dk_at dksX6_led_3 9 rfl rfl)
abbrev cX6_size : ByteArray := prog_15_method_139_code
def yX6_size : MethodName := ⟨RX6, "size", "(I)I"⟩
def dkwX6_size_6 : List UInt8 := [172]
abbrev dktX6_size_6 : List UInt8 := dkwX6_size_6 ++ []
def dkwX6_size_5 : List UInt8 := [180, 1, 47, 180, 1, 23, 172, 42, 180, 0, 17, 16, 18, 46, 172, 42, 180, 1, 52, 172, 42, 180, 1, 55]
abbrev dktX6_size_5 : List UInt8 := dkwX6_size_5 ++ dktX6_size_6
def dkwX6_size_4 : List UInt8 := [42, 180, 1, 47, 180, 0, 241, 172, 42, 182, 1, 225, 172, 42, 180, 1, 47, 180, 1, 12, 172, 42]
abbrev dktX6_size_4 : List UInt8 := dkwX6_size_4 ++ dktX6_size_5
def dkwX6_size_3 : List UInt8 := [42, 180, 1, 47, 180, 0, 159, 172, 42, 180, 1, 47, 180, 0, 221, 172, 42, 180, 1, 47, 180, 0, 193, 172]
abbrev dktX6_size_3 : List UInt8 := dkwX6_size_3 ++ dktX6_size_4
def dkwX6_size_2 : List UInt8 := [170, 0, 0, 0, 0, 116, 0, 0, 0, 0, 0, 0, 0, 8, 0, 0, 0, 50, 0, 0, 0, 58, 0, 0, 0, 66, 0, 0, 0, 74, 0, 0, 0, 82, 0, 0, 0, 87, 0, 0, 0, 95, 0, 0, 0, 103, 0, 0, 0, 111]
abbrev dktX6_size_2 : List UInt8 := dkwX6_size_2 ++ dktX6_size_3
def dkwX6_size_1 : List UInt8 := [154, 0, 5, 2, 172, 42, 180, 1, 47, 199, 0, 5, 3, 172, 27]
abbrev dktX6_size_1 : List UInt8 := dkwX6_size_1 ++ dktX6_size_2
def dkwX6_size_0 : List UInt8 := [42, 3, 181, 0, 49, 27, 16, 10, 160, 0, 8, 42, 180, 1, 40, 172, 27, 3, 16, 9, 184, 0, 128]
abbrev dktX6_size_0 : List UInt8 := dkwX6_size_0 ++ dktX6_size_1
theorem dksX6_size_0 : cX6_size.data.toList.drop 0 = dktX6_size_0 := by decide +kernel
theorem dksX6_size_1 : cX6_size.data.toList.drop 23 = dktX6_size_1 := dk_seg dksX6_size_0 23 rfl rfl
theorem dksX6_size_2 : cX6_size.data.toList.drop 38 = dktX6_size_2 := dk_seg dksX6_size_1 15 rfl rfl
theorem dksX6_size_3 : cX6_size.data.toList.drop 88 = dktX6_size_3 := dk_seg dksX6_size_2 50 rfl rfl
theorem dksX6_size_4 : cX6_size.data.toList.drop 112 = dktX6_size_4 := dk_seg dksX6_size_3 24 rfl rfl
theorem dksX6_size_5 : cX6_size.data.toList.drop 134 = dktX6_size_5 := dk_seg dksX6_size_4 22 rfl rfl
theorem dksX6_size_6 : cX6_size.data.toList.drop 158 = dktX6_size_6 := dk_seg dksX6_size_5 24 rfl rfl
theorem dX6_size_0 : decode cX6_size 0 = .ok (.aload_n 0, 1) := dk_42 (dk_at dksX6_size_0 0 rfl rfl)
theorem dX6_size_1 : decode cX6_size 1 = .ok (.iconst 0, 1) := dk_3 (dk_at dksX6_size_0 1 rfl rfl)
theorem dX6_size_2 : decode cX6_size 2 = .ok (.putfield 49, 3) := dk_181 0 49 (dk_at dksX6_size_0 2 rfl rfl)
theorem dX6_size_5 : decode cX6_size 5 = .ok (.iload_n 1, 1) := dk_27 (dk_at dksX6_size_0 5 rfl rfl)
theorem dX6_size_6 : decode cX6_size 6 = .ok (.bipush 10, 2) := dk_16 10 (dk_at dksX6_size_0 6 rfl rfl)
theorem dX6_size_8 : decode cX6_size 8 = .ok (.if_icmp .ne 8, 3) := dk_160 0 8 (dk_at dksX6_size_0 8 rfl rfl)
theorem dX6_size_11 : decode cX6_size 11 = .ok (.aload_n 0, 1) := dk_42 (dk_at dksX6_size_0 11 rfl rfl)
theorem dX6_size_12 : decode cX6_size 12 = .ok (.getfield 296, 3) := dk_180 1 40 (dk_at dksX6_size_0 12 rfl rfl)
theorem dX6_size_15 : decode cX6_size 15 = .ok (.ireturn, 1) := dk_172 (dk_at dksX6_size_0 15 rfl rfl)
theorem dX6_size_16 : decode cX6_size 16 = .ok (.iload_n 1, 1) := dk_27 (dk_at dksX6_size_0 16 rfl rfl)
theorem dX6_size_17 : decode cX6_size 17 = .ok (.iconst 0, 1) := dk_3 (dk_at dksX6_size_0 17 rfl rfl)
theorem dX6_size_18 : decode cX6_size 18 = .ok (.bipush 9, 2) := dk_16 9 (dk_at dksX6_size_0 18 rfl rfl)
theorem dX6_size_20 : decode cX6_size 20 = .ok (.invokestatic 128, 3) := dk_184 0 128 (dk_at dksX6_size_0 20 rfl rfl)
theorem dX6_size_23 : decode cX6_size 23 = .ok (.ifCond .ne 5, 3) := dk_154 0 5 (dk_at dksX6_size_1 0 rfl rfl)
theorem dX6_size_26 : decode cX6_size 26 = .ok (.iconst (-1), 1) := dk_2 (dk_at dksX6_size_1 3 rfl rfl)
theorem dX6_size_27 : decode cX6_size 27 = .ok (.ireturn, 1) := dk_172 (dk_at dksX6_size_1 4 rfl rfl)
theorem dX6_size_28 : decode cX6_size 28 = .ok (.aload_n 0, 1) := dk_42 (dk_at dksX6_size_1 5 rfl rfl)
theorem dX6_size_29 : decode cX6_size 29 = .ok (.getfield 303, 3) := dk_180 1 47 (dk_at dksX6_size_1 6 rfl rfl)
theorem dX6_size_32 : decode cX6_size 32 = .ok (.ifnonnull 5, 3) := dk_199 0 5 (dk_at dksX6_size_1 9 rfl rfl)
theorem dX6_size_35 : decode cX6_size 35 = .ok (.iconst 0, 1) := dk_3 (dk_at dksX6_size_1 12 rfl rfl)
theorem dX6_size_36 : decode cX6_size 36 = .ok (.ireturn, 1) := dk_172 (dk_at dksX6_size_1 13 rfl rfl)
theorem dX6_size_37 : decode cX6_size 37 = .ok (.iload_n 1, 1) := dk_27 (dk_at dksX6_size_1 14 rfl rfl)
theorem dX6_size_38 : decode cX6_size 38 = .ok (.tableswitch 116 0 8 #[50, 58, 66, 74, 82, 87, 95, 103, 111], 50) := by decide +kernel
theorem dX6_size_88 : decode cX6_size 88 = .ok (.aload_n 0, 1) := dk_42 (dk_at dksX6_size_3 0 rfl rfl)
theorem dX6_size_89 : decode cX6_size 89 = .ok (.getfield 303, 3) := dk_180 1 47 (dk_at dksX6_size_3 1 rfl rfl)
theorem dX6_size_92 : decode cX6_size 92 = .ok (.getfield 159, 3) := dk_180 0 159 (dk_at dksX6_size_3 4 rfl rfl)
theorem dX6_size_95 : decode cX6_size 95 = .ok (.ireturn, 1) := dk_172 (dk_at dksX6_size_3 7 rfl rfl)
theorem dX6_size_96 : decode cX6_size 96 = .ok (.aload_n 0, 1) := dk_42 (dk_at dksX6_size_3 8 rfl rfl)
theorem dX6_size_97 : decode cX6_size 97 = .ok (.getfield 303, 3) := dk_180 1 47 (dk_at dksX6_size_3 9 rfl rfl)
theorem dX6_size_100 : decode cX6_size 100 = .ok (.getfield 221, 3) := dk_180 0 221 (dk_at dksX6_size_3 12 rfl rfl)
theorem dX6_size_103 : decode cX6_size 103 = .ok (.ireturn, 1) := dk_172 (dk_at dksX6_size_3 15 rfl rfl)
theorem dX6_size_104 : decode cX6_size 104 = .ok (.aload_n 0, 1) := dk_42 (dk_at dksX6_size_3 16 rfl rfl)
theorem dX6_size_105 : decode cX6_size 105 = .ok (.getfield 303, 3) := dk_180 1 47 (dk_at dksX6_size_3 17 rfl rfl)
theorem dX6_size_108 : decode cX6_size 108 = .ok (.getfield 193, 3) := dk_180 0 193 (dk_at dksX6_size_3 20 rfl rfl)
theorem dX6_size_111 : decode cX6_size 111 = .ok (.ireturn, 1) := dk_172 (dk_at dksX6_size_3 23 rfl rfl)
theorem dX6_size_112 : decode cX6_size 112 = .ok (.aload_n 0, 1) := dk_42 (dk_at dksX6_size_4 0 rfl rfl)
theorem dX6_size_113 : decode cX6_size 113 = .ok (.getfield 303, 3) := dk_180 1 47 (dk_at dksX6_size_4 1 rfl rfl)
theorem dX6_size_116 : decode cX6_size 116 = .ok (.getfield 241, 3) := dk_180 0 241 (dk_at dksX6_size_4 4 rfl rfl)
theorem dX6_size_119 : decode cX6_size 119 = .ok (.ireturn, 1) := dk_172 (dk_at dksX6_size_4 7 rfl rfl)
theorem dX6_size_120 : decode cX6_size 120 = .ok (.aload_n 0, 1) := dk_42 (dk_at dksX6_size_4 8 rfl rfl)
theorem dX6_size_121 : decode cX6_size 121 = .ok (.invokevirtual 481, 3) := dk_182 1 225 (dk_at dksX6_size_4 9 rfl rfl)
theorem dX6_size_124 : decode cX6_size 124 = .ok (.ireturn, 1) := dk_172 (dk_at dksX6_size_4 12 rfl rfl)
theorem dX6_size_125 : decode cX6_size 125 = .ok (.aload_n 0, 1) := dk_42 (dk_at dksX6_size_4 13 rfl rfl)
theorem dX6_size_126 : decode cX6_size 126 = .ok (.getfield 303, 3) := dk_180 1 47 (dk_at dksX6_size_4 14 rfl rfl)
theorem dX6_size_129 : decode cX6_size 129 = .ok (.getfield 268, 3) := dk_180 1 12 (dk_at dksX6_size_4 17 rfl rfl)
theorem dX6_size_132 : decode cX6_size 132 = .ok (.ireturn, 1) := dk_172 (dk_at dksX6_size_4 20 rfl rfl)
theorem dX6_size_133 : decode cX6_size 133 = .ok (.aload_n 0, 1) := dk_42 (dk_at dksX6_size_4 21 rfl rfl)
theorem dX6_size_134 : decode cX6_size 134 = .ok (.getfield 303, 3) := dk_180 1 47 (dk_at dksX6_size_5 0 rfl rfl)
theorem dX6_size_137 : decode cX6_size 137 = .ok (.getfield 279, 3) := dk_180 1 23 (dk_at dksX6_size_5 3 rfl rfl)
theorem dX6_size_140 : decode cX6_size 140 = .ok (.ireturn, 1) := dk_172 (dk_at dksX6_size_5 6 rfl rfl)
theorem dX6_size_141 : decode cX6_size 141 = .ok (.aload_n 0, 1) := dk_42 (dk_at dksX6_size_5 7 rfl rfl)
theorem dX6_size_142 : decode cX6_size 142 = .ok (.getfield 17, 3) := dk_180 0 17 (dk_at dksX6_size_5 8 rfl rfl)
theorem dX6_size_145 : decode cX6_size 145 = .ok (.bipush 18, 2) := dk_16 18 (dk_at dksX6_size_5 11 rfl rfl)
theorem dX6_size_147 : decode cX6_size 147 = .ok (.iaload, 1) := dk_46 (dk_at dksX6_size_5 13 rfl rfl)
theorem dX6_size_148 : decode cX6_size 148 = .ok (.ireturn, 1) := dk_172 (dk_at dksX6_size_5 14 rfl rfl)
theorem dX6_size_149 : decode cX6_size 149 = .ok (.aload_n 0, 1) := dk_42 (dk_at dksX6_size_5 15 rfl rfl)
theorem dX6_size_150 : decode cX6_size 150 = .ok (.getfield 308, 3) := dk_180 1 52 (dk_at dksX6_size_5 16 rfl rfl)
theorem dX6_size_153 : decode cX6_size 153 = .ok (.ireturn, 1) := dk_172 (dk_at dksX6_size_5 19 rfl rfl)
theorem dX6_size_154 : decode cX6_size 154 = .ok (.aload_n 0, 1) := dk_42 (dk_at dksX6_size_5 20 rfl rfl)
theorem dX6_size_155 : decode cX6_size 155 = .ok (.getfield 311, 3) := dk_180 1 55 (dk_at dksX6_size_5 21 rfl rfl)
theorem dX6_size_158 : decode cX6_size 158 = .ok (.ireturn, 1) := dk_172 (dk_at dksX6_size_6 0 rfl rfl)
abbrev cX6_mirrorsNow : ByteArray := prog_15_method_138_code
def yX6_mirrorsNow : MethodName := ⟨RX6, "mirrorsNow", "()I"⟩
def dkwX6_mirrorsNow_1 : List UInt8 := [46, 16, 254, 160, 0, 7, 3, 167, 0, 4, 4, 96, 60, 132, 2, 1, 167, 255, 220, 27, 172]
abbrev dktX6_mirrorsNow_1 : List UInt8 := dkwX6_mirrorsNow_1 ++ []
def dkwX6_mirrorsNow_0 : List UInt8 := [3, 60, 3, 61, 28, 42, 180, 1, 47, 180, 0, 241, 162, 0, 31, 27, 42, 180, 0, 17, 16, 12, 28, 96]
abbrev dktX6_mirrorsNow_0 : List UInt8 := dkwX6_mirrorsNow_0 ++ dktX6_mirrorsNow_1
theorem dksX6_mirrorsNow_0 : cX6_mirrorsNow.data.toList.drop 0 = dktX6_mirrorsNow_0 := by decide +kernel
theorem dksX6_mirrorsNow_1 : cX6_mirrorsNow.data.toList.drop 24 = dktX6_mirrorsNow_1 := dk_seg dksX6_mirrorsNow_0 24 rfl rfl
theorem dX6_mirrorsNow_0 : decode cX6_mirrorsNow 0 = .ok (.iconst 0, 1) := dk_3 (dk_at dksX6_mirrorsNow_0 0 rfl rfl)
theorem dX6_mirrorsNow_1 : decode cX6_mirrorsNow 1 = .ok (.istore_n 1, 1) := dk_60 (dk_at dksX6_mirrorsNow_0 1 rfl rfl)
theorem dX6_mirrorsNow_2 : decode cX6_mirrorsNow 2 = .ok (.iconst 0, 1) := dk_3 (dk_at dksX6_mirrorsNow_0 2 rfl rfl)
theorem dX6_mirrorsNow_3 : decode cX6_mirrorsNow 3 = .ok (.istore_n 2, 1) := dk_61 (dk_at dksX6_mirrorsNow_0 3 rfl rfl)
theorem dX6_mirrorsNow_4 : decode cX6_mirrorsNow 4 = .ok (.iload_n 2, 1) := dk_28 (dk_at dksX6_mirrorsNow_0 4 rfl rfl)
theorem dX6_mirrorsNow_5 : decode cX6_mirrorsNow 5 = .ok (.aload_n 0, 1) := dk_42 (dk_at dksX6_mirrorsNow_0 5 rfl rfl)
theorem dX6_mirrorsNow_6 : decode cX6_mirrorsNow 6 = .ok (.getfield 303, 3) := dk_180 1 47 (dk_at dksX6_mirrorsNow_0 6 rfl rfl)
theorem dX6_mirrorsNow_9 : decode cX6_mirrorsNow 9 = .ok (.getfield 241, 3) := dk_180 0 241 (dk_at dksX6_mirrorsNow_0 9 rfl rfl)
theorem dX6_mirrorsNow_12 : decode cX6_mirrorsNow 12 = .ok (.if_icmp .ge 31, 3) := dk_162 0 31 (dk_at dksX6_mirrorsNow_0 12 rfl rfl)
theorem dX6_mirrorsNow_15 : decode cX6_mirrorsNow 15 = .ok (.iload_n 1, 1) := dk_27 (dk_at dksX6_mirrorsNow_0 15 rfl rfl)
theorem dX6_mirrorsNow_16 : decode cX6_mirrorsNow 16 = .ok (.aload_n 0, 1) := dk_42 (dk_at dksX6_mirrorsNow_0 16 rfl rfl)
theorem dX6_mirrorsNow_17 : decode cX6_mirrorsNow 17 = .ok (.getfield 17, 3) := dk_180 0 17 (dk_at dksX6_mirrorsNow_0 17 rfl rfl)
theorem dX6_mirrorsNow_20 : decode cX6_mirrorsNow 20 = .ok (.bipush 12, 2) := dk_16 12 (dk_at dksX6_mirrorsNow_0 20 rfl rfl)
theorem dX6_mirrorsNow_22 : decode cX6_mirrorsNow 22 = .ok (.iload_n 2, 1) := dk_28 (dk_at dksX6_mirrorsNow_0 22 rfl rfl)
theorem dX6_mirrorsNow_23 : decode cX6_mirrorsNow 23 = .ok (.iadd, 1) := dk_96 (dk_at dksX6_mirrorsNow_0 23 rfl rfl)
theorem dX6_mirrorsNow_24 : decode cX6_mirrorsNow 24 = .ok (.iaload, 1) := dk_46 (dk_at dksX6_mirrorsNow_1 0 rfl rfl)
theorem dX6_mirrorsNow_25 : decode cX6_mirrorsNow 25 = .ok (.bipush (-2), 2) := dk_16 254 (dk_at dksX6_mirrorsNow_1 1 rfl rfl)
theorem dX6_mirrorsNow_27 : decode cX6_mirrorsNow 27 = .ok (.if_icmp .ne 7, 3) := dk_160 0 7 (dk_at dksX6_mirrorsNow_1 3 rfl rfl)
theorem dX6_mirrorsNow_30 : decode cX6_mirrorsNow 30 = .ok (.iconst 0, 1) := dk_3 (dk_at dksX6_mirrorsNow_1 6 rfl rfl)
theorem dX6_mirrorsNow_31 : decode cX6_mirrorsNow 31 = .ok (.goto 4, 3) := dk_167 0 4 (dk_at dksX6_mirrorsNow_1 7 rfl rfl)
theorem dX6_mirrorsNow_34 : decode cX6_mirrorsNow 34 = .ok (.iconst 1, 1) := dk_4 (dk_at dksX6_mirrorsNow_1 10 rfl rfl)
theorem dX6_mirrorsNow_35 : decode cX6_mirrorsNow 35 = .ok (.iadd, 1) := dk_96 (dk_at dksX6_mirrorsNow_1 11 rfl rfl)
theorem dX6_mirrorsNow_36 : decode cX6_mirrorsNow 36 = .ok (.istore_n 1, 1) := dk_60 (dk_at dksX6_mirrorsNow_1 12 rfl rfl)
theorem dX6_mirrorsNow_37 : decode cX6_mirrorsNow 37 = .ok (.iinc 2 1, 3) := dk_132 2 1 (dk_at dksX6_mirrorsNow_1 13 rfl rfl)
theorem dX6_mirrorsNow_40 : decode cX6_mirrorsNow 40 = .ok (.goto (-36), 3) := dk_167 255 220 (dk_at dksX6_mirrorsNow_1 16 rfl rfl)
theorem dX6_mirrorsNow_43 : decode cX6_mirrorsNow 43 = .ok (.iload_n 1, 1) := dk_27 (dk_at dksX6_mirrorsNow_1 19 rfl rfl)
theorem dX6_mirrorsNow_44 : decode cX6_mirrorsNow 44 = .ok (.ireturn, 1) := dk_172 (dk_at dksX6_mirrorsNow_1 20 rfl rfl)
abbrev cX6_trouble : ByteArray := prog_15_method_140_code
def yX6_trouble : MethodName := ⟨RX6, "trouble", "()I"⟩
def dkwX6_trouble_0 : List UInt8 := [42, 3, 181, 0, 49, 42, 180, 0, 52, 172]
abbrev dktX6_trouble_0 : List UInt8 := dkwX6_trouble_0 ++ []
theorem dksX6_trouble_0 : cX6_trouble.data.toList.drop 0 = dktX6_trouble_0 := by decide +kernel
theorem dX6_trouble_0 : decode cX6_trouble 0 = .ok (.aload_n 0, 1) := dk_42 (dk_at dksX6_trouble_0 0 rfl rfl)
theorem dX6_trouble_1 : decode cX6_trouble 1 = .ok (.iconst 0, 1) := dk_3 (dk_at dksX6_trouble_0 1 rfl rfl)
theorem dX6_trouble_2 : decode cX6_trouble 2 = .ok (.putfield 49, 3) := dk_181 0 49 (dk_at dksX6_trouble_0 2 rfl rfl)
theorem dX6_trouble_5 : decode cX6_trouble 5 = .ok (.aload_n 0, 1) := dk_42 (dk_at dksX6_trouble_0 5 rfl rfl)
theorem dX6_trouble_6 : decode cX6_trouble 6 = .ok (.getfield 52, 3) := dk_180 0 52 (dk_at dksX6_trouble_0 6 rfl rfl)
theorem dX6_trouble_9 : decode cX6_trouble 9 = .ok (.ireturn, 1) := dk_172 (dk_at dksX6_trouble_0 9 rfl rfl)
theorem q126 : (Jvm.Cond.initialized "SeanceStreetModel") ∈ lw_all := lw_g (lw_at lw_m1 9 rfl) rfl
theorem q1391 : (Jvm.Cond.instantiable "SeanceStreetModel" (33 : Nat)) ∈ lw_all := lw_g (lw_at lw_m6 74 rfl) rfl
theorem q1393 : (Jvm.Cond.instanceMethod ({ cls := "SeanceStreetModel", name := "<init>", desc := "()V" } : Jvm.MethodName)) ∈ lw_all := lw_g (lw_at lw_m6 76 rfl) rfl
theorem q1394 : (Jvm.Cond.code ({ cls := "SeanceStreetModel", name := "<init>", desc := "()V" } : Jvm.MethodName) prog_15_method_1_code (1 : Nat) (Option.none : Option Jvm.ClassFile.FieldType)) ∈ lw_all := lw_g (lw_at lw_m6 77 rfl) rfl
theorem q1395 : (Jvm.Cond.methodLink "SeanceStreetModel" (3 : Nat) ({ cls := "java/lang/Object", name := "<init>", desc := "()V" } : Jvm.MethodName)) ∈ lw_all := lw_g (lw_at lw_m6 78 rfl) rfl
theorem q1396 : (Jvm.Cond.fieldLink "SeanceStreetModel" (49 : Nat) "SeanceStreetModel" "thrown" "I") ∈ lw_all := lw_g (lw_at lw_m6 79 rfl) rfl
theorem q1397 : (Jvm.Cond.fieldLink "SeanceStreetModel" (52 : Nat) "SeanceStreetModel" "trouble" "I") ∈ lw_all := lw_g (lw_at lw_m6 80 rfl) rfl
theorem q1398 : (Jvm.Cond.fieldLink "SeanceStreetModel" (9 : Nat) "SeanceStreetModel" "where" "I") ∈ lw_all := lw_g (lw_at lw_m6 81 rfl) rfl
theorem q1399 : (Jvm.Cond.fieldLink "SeanceStreetModel" (303 : Nat) "SeanceStreetModel" "town" "LSeanceStreetModel$Town;") ∈ lw_all := lw_g (lw_at lw_m6 82 rfl) rfl
theorem q1400 : (Jvm.Cond.fieldLink "SeanceStreetModel" (155 : Nat) "SeanceStreetModel" "read" "LSeanceStreetModel$Town;") ∈ lw_all := lw_g (lw_at lw_m6 83 rfl) rfl
theorem q1401 : (Jvm.Cond.fieldLink "SeanceStreetModel" (13 : Nat) "SeanceStreetModel" "tape" "[B") ∈ lw_all := lw_g (lw_at lw_m6 84 rfl) rfl
theorem q1402 : (Jvm.Cond.fieldLink "SeanceStreetModel" (296 : Nat) "SeanceStreetModel" "taped" "I") ∈ lw_all := lw_g (lw_at lw_m6 85 rfl) rfl
theorem q1403 : (Jvm.Cond.fieldLink "SeanceStreetModel" (66 : Nat) "SeanceStreetModel" "size" "I") ∈ lw_all := lw_g (lw_at lw_m6 86 rfl) rfl
theorem q1404 : (Jvm.Cond.fieldLink "SeanceStreetModel" (84 : Nat) "SeanceStreetModel" "spot" "I") ∈ lw_all := lw_g (lw_at lw_m6 87 rfl) rfl
theorem q1405 : (Jvm.Cond.fieldLink "SeanceStreetModel" (81 : Nat) "SeanceStreetModel" "sort" "I") ∈ lw_all := lw_g (lw_at lw_m6 88 rfl) rfl
theorem q1406 : (Jvm.Cond.fieldLink "SeanceStreetModel" (90 : Nat) "SeanceStreetModel" "place" "I") ∈ lw_all := lw_g (lw_at lw_m6 89 rfl) rfl
theorem q1407 : (Jvm.Cond.fieldLink "SeanceStreetModel" (104 : Nat) "SeanceStreetModel" "number" "I") ∈ lw_all := lw_g (lw_at lw_m6 90 rfl) rfl
theorem q1408 : (Jvm.Cond.fieldLink "SeanceStreetModel" (107 : Nat) "SeanceStreetModel" "fault" "I") ∈ lw_all := lw_g (lw_at lw_m6 91 rfl) rfl
theorem q1409 : (Jvm.Cond.fieldLink "SeanceStreetModel" (110 : Nat) "SeanceStreetModel" "wrongAt" "I") ∈ lw_all := lw_g (lw_at lw_m6 92 rfl) rfl
theorem q1410 : (Jvm.Cond.fieldLink "SeanceStreetModel" (97 : Nat) "SeanceStreetModel" "word" "J") ∈ lw_all := lw_g (lw_at lw_m6 93 rfl) rfl
theorem q1411 : (Jvm.Cond.fieldLink "SeanceStreetModel" (17 : Nat) "SeanceStreetModel" "v" "[I") ∈ lw_all := lw_g (lw_at lw_m6 94 rfl) rfl
theorem q1412 : (Jvm.Cond.fieldLink "SeanceStreetModel" (21 : Nat) "SeanceStreetModel" "x" "[I") ∈ lw_all := lw_g (lw_at lw_m6 95 rfl) rfl
theorem q1413 : (Jvm.Cond.fieldLink "SeanceStreetModel" (24 : Nat) "SeanceStreetModel" "past" "[I") ∈ lw_all := lw_g (lw_at lw_m6 96 rfl) rfl
theorem q1414 : (Jvm.Cond.fieldLink "SeanceStreetModel" (27 : Nat) "SeanceStreetModel" "kept" "[I") ∈ lw_all := lw_g (lw_at lw_m6 97 rfl) rfl
theorem q1415 : (Jvm.Cond.fieldLink "SeanceStreetModel" (308 : Nat) "SeanceStreetModel" "acts" "I") ∈ lw_all := lw_g (lw_at lw_m6 98 rfl) rfl
theorem q1416 : (Jvm.Cond.fieldLink "SeanceStreetModel" (311 : Nat) "SeanceStreetModel" "images" "I") ∈ lw_all := lw_g (lw_at lw_m6 99 rfl) rfl
theorem q1417 : (Jvm.Cond.fieldLink "SeanceStreetModel" (30 : Nat) "SeanceStreetModel" "free" "[I") ∈ lw_all := lw_g (lw_at lw_m6 100 rfl) rfl
theorem q1418 : (Jvm.Cond.fieldLink "SeanceStreetModel" (33 : Nat) "SeanceStreetModel" "seat" "[I") ∈ lw_all := lw_g (lw_at lw_m6 101 rfl) rfl
theorem q1419 : (Jvm.Cond.fieldLink "SeanceStreetModel" (370 : Nat) "SeanceStreetModel" "seatBest" "I") ∈ lw_all := lw_g (lw_at lw_m6 102 rfl) rfl
theorem q1420 : (Jvm.Cond.fieldLink "SeanceStreetModel" (36 : Nat) "SeanceStreetModel" "cost" "[I") ∈ lw_all := lw_g (lw_at lw_m6 103 rfl) rfl
theorem q1421 : (Jvm.Cond.fieldLink "SeanceStreetModel" (39 : Nat) "SeanceStreetModel" "hearer" "[I") ∈ lw_all := lw_g (lw_at lw_m6 104 rfl) rfl
theorem q1422 : (Jvm.Cond.fieldLink "SeanceStreetModel" (410 : Nat) "SeanceStreetModel" "fitsNow" "I") ∈ lw_all := lw_g (lw_at lw_m6 105 rfl) rfl
theorem q1423 : (Jvm.Cond.fieldLink "SeanceStreetModel" (413 : Nat) "SeanceStreetModel" "someNow" "I") ∈ lw_all := lw_g (lw_at lw_m6 106 rfl) rfl
theorem q1424 : (Jvm.Cond.fieldLink "SeanceStreetModel" (416 : Nat) "SeanceStreetModel" "everyNow" "I") ∈ lw_all := lw_g (lw_at lw_m6 107 rfl) rfl
theorem q1425 : (Jvm.Cond.fieldLink "SeanceStreetModel" (42 : Nat) "SeanceStreetModel" "otherIn" "[I") ∈ lw_all := lw_g (lw_at lw_m6 108 rfl) rfl
theorem q1426 : (Jvm.Cond.fieldLink "SeanceStreetModel" (425 : Nat) "SeanceStreetModel" "askLeft" "I") ∈ lw_all := lw_g (lw_at lw_m6 109 rfl) rfl
theorem q1427 : (Jvm.Cond.fieldLink "SeanceStreetModel" (45 : Nat) "SeanceStreetModel" "part" "[J") ∈ lw_all := lw_g (lw_at lw_m6 110 rfl) rfl
theorem q1428 : (Jvm.Cond.fieldLink "SeanceStreetModel" (458 : Nat) "SeanceStreetModel" "seedThen" "I") ∈ lw_all := lw_g (lw_at lw_m6 111 rfl) rfl
theorem q1429 : (Jvm.Cond.lays "SeanceStreetModel" "SeanceStreetModel" "thrown" "I") ∈ lw_all := lw_g (lw_at lw_m6 112 rfl) rfl
theorem q1430 : (Jvm.Cond.soleField "SeanceStreetModel" "thrown") ∈ lw_all := lw_g (lw_at lw_m6 113 rfl) rfl
theorem q1431 : (Jvm.Cond.lays "SeanceStreetModel" "SeanceStreetModel" "trouble" "I") ∈ lw_all := lw_g (lw_at lw_m6 114 rfl) rfl
theorem q1432 : (Jvm.Cond.soleField "SeanceStreetModel" "trouble") ∈ lw_all := lw_g (lw_at lw_m6 115 rfl) rfl
theorem q1433 : (Jvm.Cond.lays "SeanceStreetModel" "SeanceStreetModel" "where" "I") ∈ lw_all := lw_g (lw_at lw_m6 116 rfl) rfl
theorem q1434 : (Jvm.Cond.soleField "SeanceStreetModel" "where") ∈ lw_all := lw_g (lw_at lw_m6 117 rfl) rfl
theorem q1435 : (Jvm.Cond.lays "SeanceStreetModel" "SeanceStreetModel" "town" "LSeanceStreetModel$Town;") ∈ lw_all := lw_g (lw_at lw_m6 118 rfl) rfl
theorem q1436 : (Jvm.Cond.soleField "SeanceStreetModel" "town") ∈ lw_all := lw_g (lw_at lw_m6 119 rfl) rfl
theorem q1437 : (Jvm.Cond.lays "SeanceStreetModel" "SeanceStreetModel" "read" "LSeanceStreetModel$Town;") ∈ lw_all := lw_g (lw_at lw_m6 120 rfl) rfl
theorem q1438 : (Jvm.Cond.soleField "SeanceStreetModel" "read") ∈ lw_all := lw_g (lw_at lw_m6 121 rfl) rfl
theorem q1439 : (Jvm.Cond.laysFinal "SeanceStreetModel" "SeanceStreetModel" "tape" "[B") ∈ lw_all := lw_g (lw_at lw_m6 122 rfl) rfl
theorem q1440 : (Jvm.Cond.soleField "SeanceStreetModel" "tape") ∈ lw_all := lw_g (lw_at lw_m6 123 rfl) rfl
theorem q1441 : (Jvm.Cond.lays "SeanceStreetModel" "SeanceStreetModel" "taped" "I") ∈ lw_all := lw_g (lw_at lw_m6 124 rfl) rfl
theorem q1442 : (Jvm.Cond.soleField "SeanceStreetModel" "taped") ∈ lw_all := lw_g (lw_at lw_m6 125 rfl) rfl
theorem q1443 : (Jvm.Cond.lays "SeanceStreetModel" "SeanceStreetModel" "size" "I") ∈ lw_all := lw_g (lw_at lw_m6 126 rfl) rfl
theorem q1444 : (Jvm.Cond.soleField "SeanceStreetModel" "size") ∈ lw_all := lw_g (lw_at lw_m6 127 rfl) rfl
theorem q1445 : (Jvm.Cond.lays "SeanceStreetModel" "SeanceStreetModel" "spot" "I") ∈ lw_all := lw_g (lw_at lw_m6 128 rfl) rfl
theorem q1446 : (Jvm.Cond.soleField "SeanceStreetModel" "spot") ∈ lw_all := lw_g (lw_at lw_m6 129 rfl) rfl
theorem q1447 : (Jvm.Cond.lays "SeanceStreetModel" "SeanceStreetModel" "sort" "I") ∈ lw_all := lw_g (lw_at lw_m6 130 rfl) rfl
theorem q1448 : (Jvm.Cond.soleField "SeanceStreetModel" "sort") ∈ lw_all := lw_g (lw_at lw_m6 131 rfl) rfl
theorem q1449 : (Jvm.Cond.lays "SeanceStreetModel" "SeanceStreetModel" "place" "I") ∈ lw_all := lw_g (lw_at lw_m6 132 rfl) rfl
theorem q1450 : (Jvm.Cond.soleField "SeanceStreetModel" "place") ∈ lw_all := lw_g (lw_at lw_m6 133 rfl) rfl
theorem q1451 : (Jvm.Cond.lays "SeanceStreetModel" "SeanceStreetModel" "number" "I") ∈ lw_all := lw_g (lw_at lw_m6 134 rfl) rfl
theorem q1452 : (Jvm.Cond.soleField "SeanceStreetModel" "number") ∈ lw_all := lw_g (lw_at lw_m6 135 rfl) rfl
theorem q1453 : (Jvm.Cond.lays "SeanceStreetModel" "SeanceStreetModel" "fault" "I") ∈ lw_all := lw_g (lw_at lw_m6 136 rfl) rfl
theorem q1454 : (Jvm.Cond.soleField "SeanceStreetModel" "fault") ∈ lw_all := lw_g (lw_at lw_m6 137 rfl) rfl
theorem q1455 : (Jvm.Cond.lays "SeanceStreetModel" "SeanceStreetModel" "wrongAt" "I") ∈ lw_all := lw_g (lw_at lw_m6 138 rfl) rfl
theorem q1456 : (Jvm.Cond.soleField "SeanceStreetModel" "wrongAt") ∈ lw_all := lw_g (lw_at lw_m6 139 rfl) rfl
theorem q1457 : (Jvm.Cond.lays "SeanceStreetModel" "SeanceStreetModel" "word" "J") ∈ lw_all := lw_g (lw_at lw_m6 140 rfl) rfl
theorem q1458 : (Jvm.Cond.soleField "SeanceStreetModel" "word") ∈ lw_all := lw_g (lw_at lw_m6 141 rfl) rfl
theorem q1459 : (Jvm.Cond.laysFinal "SeanceStreetModel" "SeanceStreetModel" "v" "[I") ∈ lw_all := lw_g (lw_at lw_m6 142 rfl) rfl
theorem q1460 : (Jvm.Cond.soleField "SeanceStreetModel" "v") ∈ lw_all := lw_g (lw_at lw_m6 143 rfl) rfl
theorem q1461 : (Jvm.Cond.laysFinal "SeanceStreetModel" "SeanceStreetModel" "x" "[I") ∈ lw_all := lw_g (lw_at lw_m6 144 rfl) rfl
theorem q1462 : (Jvm.Cond.soleField "SeanceStreetModel" "x") ∈ lw_all := lw_g (lw_at lw_m6 145 rfl) rfl
theorem q1463 : (Jvm.Cond.laysFinal "SeanceStreetModel" "SeanceStreetModel" "past" "[I") ∈ lw_all := lw_g (lw_at lw_m6 146 rfl) rfl
theorem q1464 : (Jvm.Cond.soleField "SeanceStreetModel" "past") ∈ lw_all := lw_g (lw_at lw_m6 147 rfl) rfl
theorem q1465 : (Jvm.Cond.laysFinal "SeanceStreetModel" "SeanceStreetModel" "kept" "[I") ∈ lw_all := lw_g (lw_at lw_m6 148 rfl) rfl
theorem q1466 : (Jvm.Cond.soleField "SeanceStreetModel" "kept") ∈ lw_all := lw_g (lw_at lw_m6 149 rfl) rfl
theorem q1467 : (Jvm.Cond.lays "SeanceStreetModel" "SeanceStreetModel" "acts" "I") ∈ lw_all := lw_g (lw_at lw_m6 150 rfl) rfl
theorem q1468 : (Jvm.Cond.soleField "SeanceStreetModel" "acts") ∈ lw_all := lw_g (lw_at lw_m6 151 rfl) rfl
theorem q1469 : (Jvm.Cond.lays "SeanceStreetModel" "SeanceStreetModel" "images" "I") ∈ lw_all := lw_g (lw_at lw_m6 152 rfl) rfl
theorem q1470 : (Jvm.Cond.soleField "SeanceStreetModel" "images") ∈ lw_all := lw_g (lw_at lw_m6 153 rfl) rfl
theorem q1471 : (Jvm.Cond.laysFinal "SeanceStreetModel" "SeanceStreetModel" "free" "[I") ∈ lw_all := lw_g (lw_at lw_m6 154 rfl) rfl
theorem q1472 : (Jvm.Cond.soleField "SeanceStreetModel" "free") ∈ lw_all := lw_g (lw_at lw_m6 155 rfl) rfl
theorem q1473 : (Jvm.Cond.laysFinal "SeanceStreetModel" "SeanceStreetModel" "seat" "[I") ∈ lw_all := lw_g (lw_at lw_m6 156 rfl) rfl
theorem q1474 : (Jvm.Cond.soleField "SeanceStreetModel" "seat") ∈ lw_all := lw_g (lw_at lw_m6 157 rfl) rfl
theorem q1475 : (Jvm.Cond.lays "SeanceStreetModel" "SeanceStreetModel" "seatBest" "I") ∈ lw_all := lw_g (lw_at lw_m6 158 rfl) rfl
theorem q1476 : (Jvm.Cond.soleField "SeanceStreetModel" "seatBest") ∈ lw_all := lw_g (lw_at lw_m6 159 rfl) rfl
theorem q1477 : (Jvm.Cond.laysFinal "SeanceStreetModel" "SeanceStreetModel" "cost" "[I") ∈ lw_all := lw_g (lw_at lw_m6 160 rfl) rfl
theorem q1478 : (Jvm.Cond.soleField "SeanceStreetModel" "cost") ∈ lw_all := lw_g (lw_at lw_m6 161 rfl) rfl
theorem q1479 : (Jvm.Cond.laysFinal "SeanceStreetModel" "SeanceStreetModel" "hearer" "[I") ∈ lw_all := lw_g (lw_at lw_m6 162 rfl) rfl
theorem q1480 : (Jvm.Cond.soleField "SeanceStreetModel" "hearer") ∈ lw_all := lw_g (lw_at lw_m6 163 rfl) rfl
theorem q1481 : (Jvm.Cond.lays "SeanceStreetModel" "SeanceStreetModel" "fitsNow" "I") ∈ lw_all := lw_g (lw_at lw_m6 164 rfl) rfl
theorem q1482 : (Jvm.Cond.soleField "SeanceStreetModel" "fitsNow") ∈ lw_all := lw_g (lw_at lw_m6 165 rfl) rfl
theorem q1483 : (Jvm.Cond.lays "SeanceStreetModel" "SeanceStreetModel" "someNow" "I") ∈ lw_all := lw_g (lw_at lw_m6 166 rfl) rfl
theorem q1484 : (Jvm.Cond.soleField "SeanceStreetModel" "someNow") ∈ lw_all := lw_g (lw_at lw_m6 167 rfl) rfl
theorem q1485 : (Jvm.Cond.lays "SeanceStreetModel" "SeanceStreetModel" "everyNow" "I") ∈ lw_all := lw_g (lw_at lw_m6 168 rfl) rfl
theorem q1486 : (Jvm.Cond.soleField "SeanceStreetModel" "everyNow") ∈ lw_all := lw_g (lw_at lw_m6 169 rfl) rfl
theorem q1487 : (Jvm.Cond.laysFinal "SeanceStreetModel" "SeanceStreetModel" "otherIn" "[I") ∈ lw_all := lw_g (lw_at lw_m6 170 rfl) rfl
theorem q1488 : (Jvm.Cond.soleField "SeanceStreetModel" "otherIn") ∈ lw_all := lw_g (lw_at lw_m6 171 rfl) rfl
theorem q1489 : (Jvm.Cond.lays "SeanceStreetModel" "SeanceStreetModel" "askLeft" "I") ∈ lw_all := lw_g (lw_at lw_m6 172 rfl) rfl
theorem q1490 : (Jvm.Cond.soleField "SeanceStreetModel" "askLeft") ∈ lw_all := lw_g (lw_at lw_m6 173 rfl) rfl
theorem q1491 : (Jvm.Cond.laysFinal "SeanceStreetModel" "SeanceStreetModel" "part" "[J") ∈ lw_all := lw_g (lw_at lw_m6 174 rfl) rfl
theorem q1492 : (Jvm.Cond.soleField "SeanceStreetModel" "part") ∈ lw_all := lw_g (lw_at lw_m6 175 rfl) rfl
theorem q1493 : (Jvm.Cond.lays "SeanceStreetModel" "SeanceStreetModel" "seedThen" "I") ∈ lw_all := lw_g (lw_at lw_m6 176 rfl) rfl
theorem q1494 : (Jvm.Cond.soleField "SeanceStreetModel" "seedThen") ∈ lw_all := lw_g (lw_at lw_m6 177 rfl) rfl
theorem q1495 : (Jvm.Cond.superclass "SeanceStreetModel" "java/lang/Object") ∈ lw_all := lw_g (lw_at lw_m6 178 rfl) rfl
theorem q1498 : (Jvm.Cond.instanceMethod ({ cls := "SeanceStreetModel", name := "thrown", desc := "()I" } : Jvm.MethodName)) ∈ lw_all := lw_g (lw_at lw_m6 181 rfl) rfl
theorem q1499 : (Jvm.Cond.selects "SeanceStreetModel" ({ cls := "SeanceStreetModel", name := "thrown", desc := "()I" } : Jvm.MethodName) ({ cls := "SeanceStreetModel", name := "thrown", desc := "()I" } : Jvm.MethodName)) ∈ lw_all := lw_g (lw_at lw_m6 182 rfl) rfl
theorem q1500 : (Jvm.Cond.code ({ cls := "SeanceStreetModel", name := "thrown", desc := "()I" } : Jvm.MethodName) prog_15_method_2_code (1 : Nat) (Option.some Jvm.ClassFile.FieldType.int)) ∈ lw_all := lw_g (lw_at lw_m6 183 rfl) rfl
theorem q1502 : (Jvm.Cond.instanceMethod ({ cls := "SeanceStreetModel", name := "feed", desc := "(IIIII)I" } : Jvm.MethodName)) ∈ lw_all := lw_g (lw_at lw_m6 185 rfl) rfl
theorem q1503 : (Jvm.Cond.selects "SeanceStreetModel" ({ cls := "SeanceStreetModel", name := "feed", desc := "(IIIII)I" } : Jvm.MethodName) ({ cls := "SeanceStreetModel", name := "feed", desc := "(IIIII)I" } : Jvm.MethodName)) ∈ lw_all := lw_g (lw_at lw_m6 186 rfl) rfl
theorem q1504 : (Jvm.Cond.code ({ cls := "SeanceStreetModel", name := "feed", desc := "(IIIII)I" } : Jvm.MethodName) prog_15_method_39_code (8 : Nat) (Option.some Jvm.ClassFile.FieldType.int)) ∈ lw_all := lw_g (lw_at lw_m6 187 rfl) rfl
theorem q1506 : (Jvm.Cond.instanceMethod ({ cls := "SeanceStreetModel", name := "town", desc := "(I)I" } : Jvm.MethodName)) ∈ lw_all := lw_g (lw_at lw_m6 189 rfl) rfl
theorem q1507 : (Jvm.Cond.selects "SeanceStreetModel" ({ cls := "SeanceStreetModel", name := "town", desc := "(I)I" } : Jvm.MethodName) ({ cls := "SeanceStreetModel", name := "town", desc := "(I)I" } : Jvm.MethodName)) ∈ lw_all := lw_g (lw_at lw_m6 190 rfl) rfl
theorem q1508 : (Jvm.Cond.code ({ cls := "SeanceStreetModel", name := "town", desc := "(I)I" } : Jvm.MethodName) prog_15_method_40_code (3 : Nat) (Option.some Jvm.ClassFile.FieldType.int)) ∈ lw_all := lw_g (lw_at lw_m6 191 rfl) rfl
theorem q1509 : (Jvm.Cond.methodLink "SeanceStreetModel" (55 : Nat) ({ cls := "SeanceStreetModel", name := "refused", desc := "(I)I" } : Jvm.MethodName)) ∈ lw_all := lw_g (lw_at lw_m6 192 rfl) rfl
theorem q1510 : (Jvm.Cond.privateMethod ({ cls := "SeanceStreetModel", name := "refused", desc := "(I)I" } : Jvm.MethodName)) ∈ lw_tbl := lw_at lw_m6 193 rfl
theorem q1511 : (Jvm.Cond.instanceMethod ({ cls := "SeanceStreetModel", name := "refused", desc := "(I)I" } : Jvm.MethodName)) ∈ lw_all := lw_g (lw_at lw_m6 194 rfl) rfl
theorem q1512 : (Jvm.Cond.code ({ cls := "SeanceStreetModel", name := "refused", desc := "(I)I" } : Jvm.MethodName) prog_15_method_3_code (2 : Nat) (Option.some Jvm.ClassFile.FieldType.int)) ∈ lw_all := lw_g (lw_at lw_m6 195 rfl) rfl
theorem q1513 : (Jvm.Cond.classLink "SeanceStreetModel" (160 : Nat) "SeanceStreetModel$Town") ∈ lw_all := lw_g (lw_at lw_m6 196 rfl) rfl
theorem q1515 : (Jvm.Cond.methodLinkNest "SeanceStreetModel" (299 : Nat) ({ cls := "SeanceStreetModel$Town", name := "<init>", desc := "()V" } : Jvm.MethodName) "SeanceStreetModel") ∈ lw_tbl := lw_at lw_m6 198 rfl
theorem q1519 : (Jvm.Cond.fieldLinkNest "SeanceStreetModel" (159 : Nat) "SeanceStreetModel$Town" "houses" "I" "SeanceStreetModel") ∈ lw_tbl := lw_at lw_m6 202 rfl
theorem q1520 : (Jvm.Cond.fieldLinkNest "SeanceStreetModel" (221 : Nat) "SeanceStreetModel$Town" "lips" "I" "SeanceStreetModel") ∈ lw_tbl := lw_at lw_m6 203 rfl
theorem q1522 : (Jvm.Cond.fieldLinkNest "SeanceStreetModel" (193 : Nat) "SeanceStreetModel$Town" "people" "I" "SeanceStreetModel") ∈ lw_tbl := lw_at lw_m6 205 rfl
theorem q1523 : (Jvm.Cond.fieldLinkNest "SeanceStreetModel" (241 : Nat) "SeanceStreetModel$Town" "dead" "I" "SeanceStreetModel") ∈ lw_tbl := lw_at lw_m6 206 rfl
theorem q1525 : (Jvm.Cond.fieldLinkNest "SeanceStreetModel" (268 : Nat) "SeanceStreetModel$Town" "unsures" "I" "SeanceStreetModel") ∈ lw_tbl := lw_at lw_m6 208 rfl
theorem q1527 : (Jvm.Cond.fieldLinkNest "SeanceStreetModel" (279 : Nat) "SeanceStreetModel$Town" "heards" "I" "SeanceStreetModel") ∈ lw_tbl := lw_at lw_m6 210 rfl
theorem q1529 : (Jvm.Cond.fieldLinkNest "SeanceStreetModel" (175 : Nat) "SeanceStreetModel$Town" "names" "I" "SeanceStreetModel") ∈ lw_tbl := lw_at lw_m6 212 rfl
theorem q1531 : (Jvm.Cond.fieldLinkNest "SeanceStreetModel" (239 : Nat) "SeanceStreetModel$Town" "house" "[I" "SeanceStreetModel") ∈ lw_tbl := lw_at lw_m6 214 rfl
theorem q1533 : (Jvm.Cond.fieldLinkNest "SeanceStreetModel" (258 : Nat) "SeanceStreetModel$Town" "law" "[I" "SeanceStreetModel") ∈ lw_tbl := lw_at lw_m6 216 rfl
theorem q1535 : (Jvm.Cond.fieldLinkNest "SeanceStreetModel" (261 : Nat) "SeanceStreetModel$Town" "slip" "[I" "SeanceStreetModel") ∈ lw_tbl := lw_at lw_m6 218 rfl
theorem q1537 : (Jvm.Cond.fieldLinkNest "SeanceStreetModel" (263 : Nat) "SeanceStreetModel$Town" "of" "[I" "SeanceStreetModel") ∈ lw_tbl := lw_at lw_m6 220 rfl
theorem q1539 : (Jvm.Cond.fieldLinkNest "SeanceStreetModel" (266 : Nat) "SeanceStreetModel$Town" "mirror" "[I" "SeanceStreetModel") ∈ lw_tbl := lw_at lw_m6 222 rfl
theorem q1541 : (Jvm.Cond.fieldLinkNest "SeanceStreetModel" (274 : Nat) "SeanceStreetModel$Town" "unsure" "[I" "SeanceStreetModel") ∈ lw_tbl := lw_at lw_m6 224 rfl
theorem q1543 : (Jvm.Cond.fieldLinkNest "SeanceStreetModel" (276 : Nat) "SeanceStreetModel$Town" "other" "[I" "SeanceStreetModel") ∈ lw_tbl := lw_at lw_m6 226 rfl
theorem q1545 : (Jvm.Cond.fieldLinkNest "SeanceStreetModel" (288 : Nat) "SeanceStreetModel$Town" "heardBy" "[I" "SeanceStreetModel") ∈ lw_tbl := lw_at lw_m6 228 rfl
theorem q1547 : (Jvm.Cond.fieldLinkNest "SeanceStreetModel" (291 : Nat) "SeanceStreetModel$Town" "heard" "[I" "SeanceStreetModel") ∈ lw_tbl := lw_at lw_m6 230 rfl
theorem q1549 : (Jvm.Cond.fieldLinkNest "SeanceStreetModel" (293 : Nat) "SeanceStreetModel$Town" "heardIn" "[I" "SeanceStreetModel") ∈ lw_tbl := lw_at lw_m6 232 rfl
theorem q1551 : (Jvm.Cond.fieldLinkNest "SeanceStreetModel" (172 : Nat) "SeanceStreetModel$Town" "name" "[J" "SeanceStreetModel") ∈ lw_tbl := lw_at lw_m6 234 rfl
theorem q1553 : (Jvm.Cond.fieldLinkNest "SeanceStreetModel" (178 : Nat) "SeanceStreetModel$Town" "nameSort" "[I" "SeanceStreetModel") ∈ lw_tbl := lw_at lw_m6 236 rfl
theorem q1555 : (Jvm.Cond.fieldLinkNest "SeanceStreetModel" (181 : Nat) "SeanceStreetModel$Town" "numberOf" "[I" "SeanceStreetModel") ∈ lw_tbl := lw_at lw_m6 238 rfl
theorem q1599 : (Jvm.Cond.methodLink "SeanceStreetModel" (117 : Nat) ({ cls := "SeanceStreetModel", name := "goesOn", desc := "()V" } : Jvm.MethodName)) ∈ lw_all := lw_g (lw_at lw_m7 42 rfl) rfl
theorem q1600 : (Jvm.Cond.privateMethod ({ cls := "SeanceStreetModel", name := "goesOn", desc := "()V" } : Jvm.MethodName)) ∈ lw_tbl := lw_at lw_m7 43 rfl
theorem q1601 : (Jvm.Cond.instanceMethod ({ cls := "SeanceStreetModel", name := "goesOn", desc := "()V" } : Jvm.MethodName)) ∈ lw_all := lw_g (lw_at lw_m7 44 rfl) rfl
theorem q1602 : (Jvm.Cond.code ({ cls := "SeanceStreetModel", name := "goesOn", desc := "()V" } : Jvm.MethodName) prog_15_method_17_code (3 : Nat) (Option.none : Option Jvm.ClassFile.FieldType)) ∈ lw_all := lw_g (lw_at lw_m7 45 rfl) rfl
theorem q1603 : (Jvm.Cond.methodLink "SeanceStreetModel" (87 : Nat) ({ cls := "SeanceStreetModel", name := "byteAt", desc := "(I)I" } : Jvm.MethodName)) ∈ lw_all := lw_g (lw_at lw_m7 46 rfl) rfl
theorem q1604 : (Jvm.Cond.privateMethod ({ cls := "SeanceStreetModel", name := "byteAt", desc := "(I)I" } : Jvm.MethodName)) ∈ lw_tbl := lw_at lw_m7 47 rfl
theorem q1605 : (Jvm.Cond.instanceMethod ({ cls := "SeanceStreetModel", name := "byteAt", desc := "(I)I" } : Jvm.MethodName)) ∈ lw_all := lw_g (lw_at lw_m7 48 rfl) rfl
theorem q1606 : (Jvm.Cond.code ({ cls := "SeanceStreetModel", name := "byteAt", desc := "(I)I" } : Jvm.MethodName) prog_15_method_13_code (2 : Nat) (Option.some Jvm.ClassFile.FieldType.int)) ∈ lw_all := lw_g (lw_at lw_m7 49 rfl) rfl
theorem q1607 : (Jvm.Cond.methodLink "SeanceStreetModel" (93 : Nat) ({ cls := "SeanceStreetModel", name := "isLetter", desc := "(I)Z" } : Jvm.MethodName)) ∈ lw_all := lw_g (lw_at lw_m7 50 rfl) rfl
theorem q1608 : (Jvm.Cond.static ({ cls := "SeanceStreetModel", name := "isLetter", desc := "(I)Z" } : Jvm.MethodName)) ∈ lw_all := lw_g (lw_at lw_m7 51 rfl) rfl
theorem q1609 : (Jvm.Cond.code ({ cls := "SeanceStreetModel", name := "isLetter", desc := "(I)Z" } : Jvm.MethodName) prog_15_method_14_code (1 : Nat) (Option.some Jvm.ClassFile.FieldType.boolean)) ∈ lw_all := lw_g (lw_at lw_m7 52 rfl) rfl
theorem q1610 : (Jvm.Cond.constantLong "SeanceStreetModel" (75 : Nat) (32 : Int64)) ∈ lw_all := lw_g (lw_at lw_m7 53 rfl) rfl
theorem q1611 : (Jvm.Cond.methodLink "SeanceStreetModel" (101 : Nat) ({ cls := "SeanceStreetModel", name := "isDigit", desc := "(I)Z" } : Jvm.MethodName)) ∈ lw_all := lw_g (lw_at lw_m7 54 rfl) rfl
theorem q1612 : (Jvm.Cond.static ({ cls := "SeanceStreetModel", name := "isDigit", desc := "(I)Z" } : Jvm.MethodName)) ∈ lw_all := lw_g (lw_at lw_m7 55 rfl) rfl
theorem q1613 : (Jvm.Cond.code ({ cls := "SeanceStreetModel", name := "isDigit", desc := "(I)Z" } : Jvm.MethodName) prog_15_method_15_code (1 : Nat) (Option.some Jvm.ClassFile.FieldType.boolean)) ∈ lw_all := lw_g (lw_at lw_m7 56 rfl) rfl
theorem q1614 : (Jvm.Cond.methodLink "SeanceStreetModel" (300 : Nat) ({ cls := "SeanceStreetModel", name := "readAll", desc := "()V" } : Jvm.MethodName)) ∈ lw_all := lw_g (lw_at lw_m7 57 rfl) rfl
theorem q1615 : (Jvm.Cond.privateMethod ({ cls := "SeanceStreetModel", name := "readAll", desc := "()V" } : Jvm.MethodName)) ∈ lw_tbl := lw_at lw_m7 58 rfl
theorem q1616 : (Jvm.Cond.instanceMethod ({ cls := "SeanceStreetModel", name := "readAll", desc := "()V" } : Jvm.MethodName)) ∈ lw_all := lw_g (lw_at lw_m7 59 rfl) rfl
theorem q1617 : (Jvm.Cond.code ({ cls := "SeanceStreetModel", name := "readAll", desc := "()V" } : Jvm.MethodName) prog_15_method_31_code (2 : Nat) (Option.none : Option Jvm.ClassFile.FieldType)) ∈ lw_all := lw_g (lw_at lw_m7 60 rfl) rfl
theorem q1618 : (Jvm.Cond.methodLink "SeanceStreetModel" (187 : Nat) ({ cls := "SeanceStreetModel", name := "readLine", desc := "()V" } : Jvm.MethodName)) ∈ lw_all := lw_g (lw_at lw_m7 61 rfl) rfl
theorem q1619 : (Jvm.Cond.privateMethod ({ cls := "SeanceStreetModel", name := "readLine", desc := "()V" } : Jvm.MethodName)) ∈ lw_tbl := lw_at lw_m7 62 rfl
theorem q1620 : (Jvm.Cond.instanceMethod ({ cls := "SeanceStreetModel", name := "readLine", desc := "()V" } : Jvm.MethodName)) ∈ lw_all := lw_g (lw_at lw_m7 63 rfl) rfl
theorem q1621 : (Jvm.Cond.code ({ cls := "SeanceStreetModel", name := "readLine", desc := "()V" } : Jvm.MethodName) prog_15_method_32_code (1 : Nat) (Option.none : Option Jvm.ClassFile.FieldType)) ∈ lw_all := lw_g (lw_at lw_m7 64 rfl) rfl
theorem q1622 : (Jvm.Cond.stringRef "SeanceStreetModel" (143 : Nat) "town") ∈ lw_tbl := lw_at lw_m7 65 rfl
theorem q1623 : (Jvm.Cond.methodLink "SeanceStreetModel" (120 : Nat) ({ cls := "SeanceStreetModel", name := "isWord", desc := "(Ljava/lang/String;)Z" } : Jvm.MethodName)) ∈ lw_all := lw_g (lw_at lw_m7 66 rfl) rfl
theorem q1624 : (Jvm.Cond.privateMethod ({ cls := "SeanceStreetModel", name := "isWord", desc := "(Ljava/lang/String;)Z" } : Jvm.MethodName)) ∈ lw_tbl := lw_at lw_m7 67 rfl
theorem q1625 : (Jvm.Cond.instanceMethod ({ cls := "SeanceStreetModel", name := "isWord", desc := "(Ljava/lang/String;)Z" } : Jvm.MethodName)) ∈ lw_all := lw_g (lw_at lw_m7 68 rfl) rfl
theorem q1626 : (Jvm.Cond.code ({ cls := "SeanceStreetModel", name := "isWord", desc := "(Ljava/lang/String;)Z" } : Jvm.MethodName) prog_15_method_19_code (2 : Nat) (Option.some Jvm.ClassFile.FieldType.boolean)) ∈ lw_all := lw_g (lw_at lw_m7 69 rfl) rfl
theorem q1627 : (Jvm.Cond.methodLink "SeanceStreetModel" (113 : Nat) ({ cls := "SeanceStreetModel", name := "packed", desc := "(Ljava/lang/String;)J" } : Jvm.MethodName)) ∈ lw_all := lw_g (lw_at lw_m7 70 rfl) rfl
theorem q1628 : (Jvm.Cond.static ({ cls := "SeanceStreetModel", name := "packed", desc := "(Ljava/lang/String;)J" } : Jvm.MethodName)) ∈ lw_all := lw_g (lw_at lw_m7 71 rfl) rfl
theorem q1629 : (Jvm.Cond.code ({ cls := "SeanceStreetModel", name := "packed", desc := "(Ljava/lang/String;)J" } : Jvm.MethodName) prog_15_method_16_code (4 : Nat) (Option.some Jvm.ClassFile.FieldType.long)) ∈ lw_all := lw_g (lw_at lw_m7 72 rfl) rfl
theorem q1630 : (Jvm.Cond.methodLink "SeanceStreetModel" (69 : Nat) ({ cls := "java/lang/String", name := "length", desc := "()I" } : Jvm.MethodName)) ∈ lw_all := lw_g (lw_at lw_m7 73 rfl) rfl
theorem q1638 : (Jvm.Cond.methodLink "SeanceStreetModel" (77 : Nat) ({ cls := "java/lang/String", name := "charAt", desc := "(I)C" } : Jvm.MethodName)) ∈ lw_all := lw_g (lw_at lw_m7 81 rfl) rfl
theorem q1658 : (Jvm.Cond.methodLink "SeanceStreetModel" (196 : Nat) ({ cls := "SeanceStreetModel", name := "readTown", desc := "()V" } : Jvm.MethodName)) ∈ lw_all := lw_g (lw_at lw_m7 101 rfl) rfl
theorem q1659 : (Jvm.Cond.privateMethod ({ cls := "SeanceStreetModel", name := "readTown", desc := "()V" } : Jvm.MethodName)) ∈ lw_tbl := lw_at lw_m7 102 rfl
theorem q1660 : (Jvm.Cond.instanceMethod ({ cls := "SeanceStreetModel", name := "readTown", desc := "()V" } : Jvm.MethodName)) ∈ lw_all := lw_g (lw_at lw_m7 103 rfl) rfl
theorem q1661 : (Jvm.Cond.code ({ cls := "SeanceStreetModel", name := "readTown", desc := "()V" } : Jvm.MethodName) prog_15_method_33_code (3 : Nat) (Option.none : Option Jvm.ClassFile.FieldType)) ∈ lw_all := lw_g (lw_at lw_m7 104 rfl) rfl
theorem q1662 : (Jvm.Cond.methodLink "SeanceStreetModel" (124 : Nat) ({ cls := "SeanceStreetModel", name := "flaw", desc := "(I)V" } : Jvm.MethodName)) ∈ lw_all := lw_g (lw_at lw_m7 105 rfl) rfl
theorem q1663 : (Jvm.Cond.privateMethod ({ cls := "SeanceStreetModel", name := "flaw", desc := "(I)V" } : Jvm.MethodName)) ∈ lw_tbl := lw_at lw_m7 106 rfl
theorem q1664 : (Jvm.Cond.instanceMethod ({ cls := "SeanceStreetModel", name := "flaw", desc := "(I)V" } : Jvm.MethodName)) ∈ lw_all := lw_g (lw_at lw_m7 107 rfl) rfl
theorem q1665 : (Jvm.Cond.code ({ cls := "SeanceStreetModel", name := "flaw", desc := "(I)V" } : Jvm.MethodName) prog_15_method_18_code (2 : Nat) (Option.none : Option Jvm.ClassFile.FieldType)) ∈ lw_all := lw_g (lw_at lw_m7 108 rfl) rfl
theorem q1666 : (Jvm.Cond.stringRef "SeanceStreetModel" (214 : Nat) "houses") ∈ lw_tbl := lw_at lw_m7 109 rfl
theorem q1667 : (Jvm.Cond.methodLink "SeanceStreetModel" (215 : Nat) ({ cls := "SeanceStreetModel", name := "readPart", desc := "(Ljava/lang/String;II)I" } : Jvm.MethodName)) ∈ lw_all := lw_g (lw_at lw_m7 110 rfl) rfl
theorem q1668 : (Jvm.Cond.privateMethod ({ cls := "SeanceStreetModel", name := "readPart", desc := "(Ljava/lang/String;II)I" } : Jvm.MethodName)) ∈ lw_tbl := lw_at lw_m7 111 rfl
theorem q1669 : (Jvm.Cond.instanceMethod ({ cls := "SeanceStreetModel", name := "readPart", desc := "(Ljava/lang/String;II)I" } : Jvm.MethodName)) ∈ lw_all := lw_g (lw_at lw_m7 112 rfl) rfl
theorem q1670 : (Jvm.Cond.code ({ cls := "SeanceStreetModel", name := "readPart", desc := "(Ljava/lang/String;II)I" } : Jvm.MethodName) prog_15_method_24_code (4 : Nat) (Option.some Jvm.ClassFile.FieldType.int)) ∈ lw_all := lw_g (lw_at lw_m7 113 rfl) rfl
theorem q1671 : (Jvm.Cond.methodLink "SeanceStreetModel" (136 : Nat) ({ cls := "SeanceStreetModel", name := "needs", desc := "(Ljava/lang/String;)V" } : Jvm.MethodName)) ∈ lw_all := lw_g (lw_at lw_m7 114 rfl) rfl
theorem q1672 : (Jvm.Cond.privateMethod ({ cls := "SeanceStreetModel", name := "needs", desc := "(Ljava/lang/String;)V" } : Jvm.MethodName)) ∈ lw_tbl := lw_at lw_m7 115 rfl
theorem q1673 : (Jvm.Cond.instanceMethod ({ cls := "SeanceStreetModel", name := "needs", desc := "(Ljava/lang/String;)V" } : Jvm.MethodName)) ∈ lw_all := lw_g (lw_at lw_m7 116 rfl) rfl
theorem q1674 : (Jvm.Cond.code ({ cls := "SeanceStreetModel", name := "needs", desc := "(Ljava/lang/String;)V" } : Jvm.MethodName) prog_15_method_21_code (2 : Nat) (Option.none : Option Jvm.ClassFile.FieldType)) ∈ lw_all := lw_g (lw_at lw_m7 117 rfl) rfl
theorem q1675 : (Jvm.Cond.methodLink "SeanceStreetModel" (140 : Nat) ({ cls := "SeanceStreetModel", name := "readWhole", desc := "(II)I" } : Jvm.MethodName)) ∈ lw_all := lw_g (lw_at lw_m7 118 rfl) rfl
theorem q1676 : (Jvm.Cond.privateMethod ({ cls := "SeanceStreetModel", name := "readWhole", desc := "(II)I" } : Jvm.MethodName)) ∈ lw_tbl := lw_at lw_m7 119 rfl
theorem q1677 : (Jvm.Cond.instanceMethod ({ cls := "SeanceStreetModel", name := "readWhole", desc := "(II)I" } : Jvm.MethodName)) ∈ lw_all := lw_g (lw_at lw_m7 120 rfl) rfl
theorem q1678 : (Jvm.Cond.code ({ cls := "SeanceStreetModel", name := "readWhole", desc := "(II)I" } : Jvm.MethodName) prog_15_method_23_code (4 : Nat) (Option.some Jvm.ClassFile.FieldType.int)) ∈ lw_all := lw_g (lw_at lw_m7 121 rfl) rfl
theorem q1679 : (Jvm.Cond.methodLink "SeanceStreetModel" (132 : Nat) ({ cls := "SeanceStreetModel", name := "wholeAt", desc := "(II)I" } : Jvm.MethodName)) ∈ lw_all := lw_g (lw_at lw_m7 122 rfl) rfl
theorem q1680 : (Jvm.Cond.privateMethod ({ cls := "SeanceStreetModel", name := "wholeAt", desc := "(II)I" } : Jvm.MethodName)) ∈ lw_tbl := lw_at lw_m7 123 rfl
theorem q1681 : (Jvm.Cond.instanceMethod ({ cls := "SeanceStreetModel", name := "wholeAt", desc := "(II)I" } : Jvm.MethodName)) ∈ lw_all := lw_g (lw_at lw_m7 124 rfl) rfl
theorem q1682 : (Jvm.Cond.code ({ cls := "SeanceStreetModel", name := "wholeAt", desc := "(II)I" } : Jvm.MethodName) prog_15_method_22_code (3 : Nat) (Option.some Jvm.ClassFile.FieldType.int)) ∈ lw_all := lw_g (lw_at lw_m7 125 rfl) rfl
theorem q1683 : (Jvm.Cond.methodLink "SeanceStreetModel" (128 : Nat) ({ cls := "SeanceStreetModel", name := "in", desc := "(III)Z" } : Jvm.MethodName)) ∈ lw_all := lw_g (lw_at lw_m7 126 rfl) rfl
theorem q1684 : (Jvm.Cond.static ({ cls := "SeanceStreetModel", name := "in", desc := "(III)Z" } : Jvm.MethodName)) ∈ lw_all := lw_g (lw_at lw_m7 127 rfl) rfl
theorem q1685 : (Jvm.Cond.code ({ cls := "SeanceStreetModel", name := "in", desc := "(III)Z" } : Jvm.MethodName) prog_15_method_8_code (3 : Nat) (Option.some Jvm.ClassFile.FieldType.boolean)) ∈ lw_all := lw_g (lw_at lw_m7 128 rfl) rfl
theorem q1686 : (Jvm.Cond.stringRef "SeanceStreetModel" (219 : Nat) "lips") ∈ lw_tbl := lw_at lw_m7 129 rfl
theorem q1687 : (Jvm.Cond.stringRef "SeanceStreetModel" (145 : Nat) "person") ∈ lw_tbl := lw_at lw_m7 130 rfl
theorem q1688 : (Jvm.Cond.methodLink "SeanceStreetModel" (199 : Nat) ({ cls := "SeanceStreetModel", name := "readPerson", desc := "()V" } : Jvm.MethodName)) ∈ lw_all := lw_g (lw_at lw_m7 131 rfl) rfl
theorem q1689 : (Jvm.Cond.privateMethod ({ cls := "SeanceStreetModel", name := "readPerson", desc := "()V" } : Jvm.MethodName)) ∈ lw_tbl := lw_at lw_m7 132 rfl
theorem q1690 : (Jvm.Cond.instanceMethod ({ cls := "SeanceStreetModel", name := "readPerson", desc := "()V" } : Jvm.MethodName)) ∈ lw_all := lw_g (lw_at lw_m7 133 rfl) rfl
theorem q1691 : (Jvm.Cond.code ({ cls := "SeanceStreetModel", name := "readPerson", desc := "()V" } : Jvm.MethodName) prog_15_method_34_code (4 : Nat) (Option.none : Option Jvm.ClassFile.FieldType)) ∈ lw_all := lw_g (lw_at lw_m7 134 rfl) rfl
theorem q1692 : (Jvm.Cond.methodLink "SeanceStreetModel" (223 : Nat) ({ cls := "SeanceStreetModel", name := "lineBegins", desc := "(II)V" } : Jvm.MethodName)) ∈ lw_all := lw_g (lw_at lw_m7 135 rfl) rfl
theorem q1693 : (Jvm.Cond.privateMethod ({ cls := "SeanceStreetModel", name := "lineBegins", desc := "(II)V" } : Jvm.MethodName)) ∈ lw_tbl := lw_at lw_m7 136 rfl
theorem q1694 : (Jvm.Cond.instanceMethod ({ cls := "SeanceStreetModel", name := "lineBegins", desc := "(II)V" } : Jvm.MethodName)) ∈ lw_all := lw_g (lw_at lw_m7 137 rfl) rfl
theorem q1695 : (Jvm.Cond.code ({ cls := "SeanceStreetModel", name := "lineBegins", desc := "(II)V" } : Jvm.MethodName) prog_15_method_26_code (3 : Nat) (Option.none : Option Jvm.ClassFile.FieldType)) ∈ lw_all := lw_g (lw_at lw_m7 138 rfl) rfl
theorem q1696 : (Jvm.Cond.methodLink "SeanceStreetModel" (227 : Nat) ({ cls := "SeanceStreetModel", name := "readFresh", desc := "()J" } : Jvm.MethodName)) ∈ lw_all := lw_g (lw_at lw_m7 139 rfl) rfl
theorem q1697 : (Jvm.Cond.privateMethod ({ cls := "SeanceStreetModel", name := "readFresh", desc := "()J" } : Jvm.MethodName)) ∈ lw_tbl := lw_at lw_m7 140 rfl
theorem q1698 : (Jvm.Cond.instanceMethod ({ cls := "SeanceStreetModel", name := "readFresh", desc := "()J" } : Jvm.MethodName)) ∈ lw_all := lw_g (lw_at lw_m7 141 rfl) rfl
theorem q1699 : (Jvm.Cond.code ({ cls := "SeanceStreetModel", name := "readFresh", desc := "()J" } : Jvm.MethodName) prog_15_method_27_code (3 : Nat) (Option.some Jvm.ClassFile.FieldType.long)) ∈ lw_all := lw_g (lw_at lw_m7 142 rfl) rfl
theorem q1700 : (Jvm.Cond.methodLink "SeanceStreetModel" (164 : Nat) ({ cls := "SeanceStreetModel", name := "isName", desc := "()Z" } : Jvm.MethodName)) ∈ lw_all := lw_g (lw_at lw_m7 143 rfl) rfl
theorem q1701 : (Jvm.Cond.privateMethod ({ cls := "SeanceStreetModel", name := "isName", desc := "()Z" } : Jvm.MethodName)) ∈ lw_tbl := lw_at lw_m7 144 rfl
theorem q1702 : (Jvm.Cond.instanceMethod ({ cls := "SeanceStreetModel", name := "isName", desc := "()Z" } : Jvm.MethodName)) ∈ lw_all := lw_g (lw_at lw_m7 145 rfl) rfl
theorem q1703 : (Jvm.Cond.code ({ cls := "SeanceStreetModel", name := "isName", desc := "()Z" } : Jvm.MethodName) prog_15_method_25_code (1 : Nat) (Option.some Jvm.ClassFile.FieldType.boolean)) ∈ lw_all := lw_g (lw_at lw_m7 146 rfl) rfl
theorem q1704 : (Jvm.Cond.stringRef "SeanceStreetModel" (147 : Nat) "dead") ∈ lw_tbl := lw_at lw_m7 147 rfl
theorem q1705 : (Jvm.Cond.stringRef "SeanceStreetModel" (149 : Nat) "mirror") ∈ lw_tbl := lw_at lw_m7 148 rfl
theorem q1706 : (Jvm.Cond.stringRef "SeanceStreetModel" (151 : Nat) "unsure") ∈ lw_tbl := lw_at lw_m7 149 rfl
theorem q1707 : (Jvm.Cond.stringRef "SeanceStreetModel" (153 : Nat) "heard") ∈ lw_tbl := lw_at lw_m7 150 rfl
theorem q1708 : (Jvm.Cond.methodLink "SeanceStreetModel" (168 : Nat) ({ cls := "SeanceStreetModel$Town", name := "find", desc := "(J)I" } : Jvm.MethodName)) ∈ lw_all := lw_g (lw_at lw_m7 151 rfl) rfl
theorem q1712 : (Jvm.Cond.stringRef "SeanceStreetModel" (231 : Nat) "house") ∈ lw_tbl := lw_at lw_m7 155 rfl
theorem q1713 : (Jvm.Cond.methodLink "SeanceStreetModel" (233 : Nat) ({ cls := "SeanceStreetModel$Town", name := "isTaken", desc := "(I)Z" } : Jvm.MethodName)) ∈ lw_all := lw_g (lw_at lw_m7 156 rfl) rfl
theorem q1717 : (Jvm.Cond.methodLink "SeanceStreetModel" (236 : Nat) ({ cls := "SeanceStreetModel", name := "names", desc := "(JII)V" } : Jvm.MethodName)) ∈ lw_all := lw_g (lw_at lw_m7 160 rfl) rfl
theorem q1718 : (Jvm.Cond.privateMethod ({ cls := "SeanceStreetModel", name := "names", desc := "(JII)V" } : Jvm.MethodName)) ∈ lw_tbl := lw_at lw_m7 161 rfl
theorem q1719 : (Jvm.Cond.instanceMethod ({ cls := "SeanceStreetModel", name := "names", desc := "(JII)V" } : Jvm.MethodName)) ∈ lw_all := lw_g (lw_at lw_m7 162 rfl) rfl
theorem q1720 : (Jvm.Cond.code ({ cls := "SeanceStreetModel", name := "names", desc := "(JII)V" } : Jvm.MethodName) prog_15_method_28_code (5 : Nat) (Option.none : Option Jvm.ClassFile.FieldType)) ∈ lw_all := lw_g (lw_at lw_m7 163 rfl) rfl
theorem q1721 : (Jvm.Cond.methodLink "SeanceStreetModel" (202 : Nat) ({ cls := "SeanceStreetModel", name := "readDead", desc := "()V" } : Jvm.MethodName)) ∈ lw_all := lw_g (lw_at lw_m7 164 rfl) rfl
theorem q1722 : (Jvm.Cond.privateMethod ({ cls := "SeanceStreetModel", name := "readDead", desc := "()V" } : Jvm.MethodName)) ∈ lw_tbl := lw_at lw_m7 165 rfl
theorem q1723 : (Jvm.Cond.instanceMethod ({ cls := "SeanceStreetModel", name := "readDead", desc := "()V" } : Jvm.MethodName)) ∈ lw_all := lw_g (lw_at lw_m7 166 rfl) rfl
theorem q1724 : (Jvm.Cond.code ({ cls := "SeanceStreetModel", name := "readDead", desc := "()V" } : Jvm.MethodName) prog_15_method_35_code (6 : Nat) (Option.none : Option Jvm.ClassFile.FieldType)) ∈ lw_all := lw_g (lw_at lw_m7 167 rfl) rfl
theorem q1725 : (Jvm.Cond.stringRef "SeanceStreetModel" (243 : Nat) "late") ∈ lw_tbl := lw_at lw_m7 168 rfl
theorem q1726 : (Jvm.Cond.stringRef "SeanceStreetModel" (245 : Nat) "early") ∈ lw_tbl := lw_at lw_m7 169 rfl
theorem q1727 : (Jvm.Cond.stringRef "SeanceStreetModel" (247 : Nat) "drift") ∈ lw_tbl := lw_at lw_m7 170 rfl
theorem q1728 : (Jvm.Cond.stringRef "SeanceStreetModel" (249 : Nat) "swing") ∈ lw_tbl := lw_at lw_m7 171 rfl
theorem q1729 : (Jvm.Cond.stringRef "SeanceStreetModel" (251 : Nat) "slip") ∈ lw_tbl := lw_at lw_m7 172 rfl
theorem q1730 : (Jvm.Cond.stringRef "SeanceStreetModel" (253 : Nat) "for") ∈ lw_tbl := lw_at lw_m7 173 rfl
theorem q1731 : (Jvm.Cond.methodLink "SeanceStreetModel" (255 : Nat) ({ cls := "SeanceStreetModel", name := "readKnown", desc := "(I)I" } : Jvm.MethodName)) ∈ lw_all := lw_g (lw_at lw_m7 174 rfl) rfl
theorem q1732 : (Jvm.Cond.privateMethod ({ cls := "SeanceStreetModel", name := "readKnown", desc := "(I)I" } : Jvm.MethodName)) ∈ lw_tbl := lw_at lw_m7 175 rfl
theorem q1733 : (Jvm.Cond.instanceMethod ({ cls := "SeanceStreetModel", name := "readKnown", desc := "(I)I" } : Jvm.MethodName)) ∈ lw_all := lw_g (lw_at lw_m7 176 rfl) rfl
theorem q1734 : (Jvm.Cond.code ({ cls := "SeanceStreetModel", name := "readKnown", desc := "(I)I" } : Jvm.MethodName) prog_15_method_30_code (3 : Nat) (Option.some Jvm.ClassFile.FieldType.int)) ∈ lw_all := lw_g (lw_at lw_m7 177 rfl) rfl
theorem q1735 : (Jvm.Cond.methodLink "SeanceStreetModel" (184 : Nat) ({ cls := "SeanceStreetModel", name := "knownOne", desc := "(I)I" } : Jvm.MethodName)) ∈ lw_all := lw_g (lw_at lw_m7 178 rfl) rfl
theorem q1736 : (Jvm.Cond.privateMethod ({ cls := "SeanceStreetModel", name := "knownOne", desc := "(I)I" } : Jvm.MethodName)) ∈ lw_tbl := lw_at lw_m7 179 rfl
theorem q1737 : (Jvm.Cond.instanceMethod ({ cls := "SeanceStreetModel", name := "knownOne", desc := "(I)I" } : Jvm.MethodName)) ∈ lw_all := lw_g (lw_at lw_m7 180 rfl) rfl
theorem q1738 : (Jvm.Cond.code ({ cls := "SeanceStreetModel", name := "knownOne", desc := "(I)I" } : Jvm.MethodName) prog_15_method_29_code (3 : Nat) (Option.some Jvm.ClassFile.FieldType.int)) ∈ lw_all := lw_g (lw_at lw_m7 181 rfl) rfl
theorem q1739 : (Jvm.Cond.methodLink "SeanceStreetModel" (205 : Nat) ({ cls := "SeanceStreetModel", name := "readMirror", desc := "()V" } : Jvm.MethodName)) ∈ lw_all := lw_g (lw_at lw_m7 182 rfl) rfl
theorem q1740 : (Jvm.Cond.privateMethod ({ cls := "SeanceStreetModel", name := "readMirror", desc := "()V" } : Jvm.MethodName)) ∈ lw_tbl := lw_at lw_m7 183 rfl
theorem q1741 : (Jvm.Cond.instanceMethod ({ cls := "SeanceStreetModel", name := "readMirror", desc := "()V" } : Jvm.MethodName)) ∈ lw_all := lw_g (lw_at lw_m7 184 rfl) rfl
theorem q1742 : (Jvm.Cond.code ({ cls := "SeanceStreetModel", name := "readMirror", desc := "()V" } : Jvm.MethodName) prog_15_method_36_code (3 : Nat) (Option.none : Option Jvm.ClassFile.FieldType)) ∈ lw_all := lw_g (lw_at lw_m7 185 rfl) rfl
theorem q1743 : (Jvm.Cond.methodLink "SeanceStreetModel" (208 : Nat) ({ cls := "SeanceStreetModel", name := "readUnsure", desc := "()V" } : Jvm.MethodName)) ∈ lw_all := lw_g (lw_at lw_m7 186 rfl) rfl
theorem q1744 : (Jvm.Cond.privateMethod ({ cls := "SeanceStreetModel", name := "readUnsure", desc := "()V" } : Jvm.MethodName)) ∈ lw_tbl := lw_at lw_m7 187 rfl
theorem q1745 : (Jvm.Cond.instanceMethod ({ cls := "SeanceStreetModel", name := "readUnsure", desc := "()V" } : Jvm.MethodName)) ∈ lw_all := lw_g (lw_at lw_m7 188 rfl) rfl
theorem q1746 : (Jvm.Cond.code ({ cls := "SeanceStreetModel", name := "readUnsure", desc := "()V" } : Jvm.MethodName) prog_15_method_37_code (3 : Nat) (Option.none : Option Jvm.ClassFile.FieldType)) ∈ lw_all := lw_g (lw_at lw_m7 189 rfl) rfl
theorem q1747 : (Jvm.Cond.methodLink "SeanceStreetModel" (271 : Nat) ({ cls := "SeanceStreetModel$Town", name := "isUnsure", desc := "(I)Z" } : Jvm.MethodName)) ∈ lw_all := lw_g (lw_at lw_m7 190 rfl) rfl
theorem q1751 : (Jvm.Cond.methodLink "SeanceStreetModel" (211 : Nat) ({ cls := "SeanceStreetModel", name := "readHeard", desc := "()V" } : Jvm.MethodName)) ∈ lw_all := lw_g (lw_at lw_m7 194 rfl) rfl
theorem q1752 : (Jvm.Cond.privateMethod ({ cls := "SeanceStreetModel", name := "readHeard", desc := "()V" } : Jvm.MethodName)) ∈ lw_tbl := lw_at lw_m7 195 rfl
theorem q1753 : (Jvm.Cond.instanceMethod ({ cls := "SeanceStreetModel", name := "readHeard", desc := "()V" } : Jvm.MethodName)) ∈ lw_all := lw_g (lw_at lw_m7 196 rfl) rfl
theorem q1754 : (Jvm.Cond.code ({ cls := "SeanceStreetModel", name := "readHeard", desc := "()V" } : Jvm.MethodName) prog_15_method_38_code (4 : Nat) (Option.none : Option Jvm.ClassFile.FieldType)) ∈ lw_all := lw_g (lw_at lw_m7 197 rfl) rfl
theorem q1755 : (Jvm.Cond.stringRef "SeanceStreetModel" (282 : Nat) "night") ∈ lw_tbl := lw_at lw_m7 198 rfl
theorem q1756 : (Jvm.Cond.methodLink "SeanceStreetModel" (284 : Nat) ({ cls := "SeanceStreetModel$Town", name := "isHeard", desc := "(II)Z" } : Jvm.MethodName)) ∈ lw_all := lw_g (lw_at lw_m7 199 rfl) rfl
theorem q1760 : (Jvm.Cond.methodLink "SeanceStreetModel" (190 : Nat) ({ cls := "SeanceStreetModel", name := "eatsSemicolon", desc := "()Z" } : Jvm.MethodName)) ∈ lw_all := lw_g (lw_at lw_m7 203 rfl) rfl
theorem q1761 : (Jvm.Cond.privateMethod ({ cls := "SeanceStreetModel", name := "eatsSemicolon", desc := "()Z" } : Jvm.MethodName)) ∈ lw_tbl := lw_at lw_m7 204 rfl
theorem q1762 : (Jvm.Cond.instanceMethod ({ cls := "SeanceStreetModel", name := "eatsSemicolon", desc := "()Z" } : Jvm.MethodName)) ∈ lw_all := lw_g (lw_at lw_m7 205 rfl) rfl
theorem q1763 : (Jvm.Cond.code ({ cls := "SeanceStreetModel", name := "eatsSemicolon", desc := "()Z" } : Jvm.MethodName) prog_15_method_20_code (2 : Nat) (Option.some Jvm.ClassFile.FieldType.boolean)) ∈ lw_all := lw_g (lw_at lw_m7 206 rfl) rfl
theorem q1764 : (Jvm.Cond.methodLink "SeanceStreetModel" (305 : Nat) ({ cls := "SeanceStreetModel", name := "asTold", desc := "(I)V" } : Jvm.MethodName)) ∈ lw_all := lw_g (lw_at lw_m7 207 rfl) rfl
theorem q1765 : (Jvm.Cond.privateMethod ({ cls := "SeanceStreetModel", name := "asTold", desc := "(I)V" } : Jvm.MethodName)) ∈ lw_tbl := lw_at lw_m7 208 rfl
theorem q1766 : (Jvm.Cond.instanceMethod ({ cls := "SeanceStreetModel", name := "asTold", desc := "(I)V" } : Jvm.MethodName)) ∈ lw_all := lw_g (lw_at lw_m7 209 rfl) rfl
theorem q1767 : (Jvm.Cond.code ({ cls := "SeanceStreetModel", name := "asTold", desc := "(I)V" } : Jvm.MethodName) prog_15_method_47_code (3 : Nat) (Option.none : Option Jvm.ClassFile.FieldType)) ∈ lw_all := lw_g (lw_at lw_m7 210 rfl) rfl
theorem q1768 : (Jvm.Cond.methodLink "SeanceStreetModel" (314 : Nat) ({ cls := "SeanceStreetModel", name := "bit", desc := "(II)Z" } : Jvm.MethodName)) ∈ lw_all := lw_g (lw_at lw_m7 211 rfl) rfl
theorem q1769 : (Jvm.Cond.static ({ cls := "SeanceStreetModel", name := "bit", desc := "(II)Z" } : Jvm.MethodName)) ∈ lw_all := lw_g (lw_at lw_m7 212 rfl) rfl
theorem q1770 : (Jvm.Cond.code ({ cls := "SeanceStreetModel", name := "bit", desc := "(II)Z" } : Jvm.MethodName) prog_15_method_9_code (2 : Nat) (Option.some Jvm.ClassFile.FieldType.boolean)) ∈ lw_all := lw_g (lw_at lw_m7 213 rfl) rfl
theorem q1771 : (Jvm.Cond.methodLink "SeanceStreetModel" (59 : Nat) ({ cls := "SeanceStreetModel", name := "good", desc := "(I)I" } : Jvm.MethodName)) ∈ lw_all := lw_g (lw_at lw_m7 214 rfl) rfl
theorem q1772 : (Jvm.Cond.privateMethod ({ cls := "SeanceStreetModel", name := "good", desc := "(I)I" } : Jvm.MethodName)) ∈ lw_tbl := lw_at lw_m7 215 rfl
theorem q1773 : (Jvm.Cond.instanceMethod ({ cls := "SeanceStreetModel", name := "good", desc := "(I)I" } : Jvm.MethodName)) ∈ lw_all := lw_g (lw_at lw_m7 216 rfl) rfl
theorem q1774 : (Jvm.Cond.code ({ cls := "SeanceStreetModel", name := "good", desc := "(I)I" } : Jvm.MethodName) prog_15_method_6_code (2 : Nat) (Option.some Jvm.ClassFile.FieldType.int)) ∈ lw_all := lw_g (lw_at lw_m7 217 rfl) rfl
theorem q1776 : (Jvm.Cond.instanceMethod ({ cls := "SeanceStreetModel", name := "fault", desc := "()I" } : Jvm.MethodName)) ∈ lw_all := lw_g (lw_at lw_m7 219 rfl) rfl
theorem q1777 : (Jvm.Cond.selects "SeanceStreetModel" ({ cls := "SeanceStreetModel", name := "fault", desc := "()I" } : Jvm.MethodName) ({ cls := "SeanceStreetModel", name := "fault", desc := "()I" } : Jvm.MethodName)) ∈ lw_all := lw_g (lw_at lw_m7 220 rfl) rfl
theorem q1778 : (Jvm.Cond.code ({ cls := "SeanceStreetModel", name := "fault", desc := "()I" } : Jvm.MethodName) prog_15_method_41_code (1 : Nat) (Option.some Jvm.ClassFile.FieldType.int)) ∈ lw_all := lw_g (lw_at lw_m7 221 rfl) rfl
theorem q1780 : (Jvm.Cond.instanceMethod ({ cls := "SeanceStreetModel", name := "where", desc := "()I" } : Jvm.MethodName)) ∈ lw_all := lw_g (lw_at lw_m7 223 rfl) rfl
theorem q1781 : (Jvm.Cond.selects "SeanceStreetModel" ({ cls := "SeanceStreetModel", name := "where", desc := "()I" } : Jvm.MethodName) ({ cls := "SeanceStreetModel", name := "where", desc := "()I" } : Jvm.MethodName)) ∈ lw_all := lw_g (lw_at lw_m7 224 rfl) rfl
theorem q1782 : (Jvm.Cond.code ({ cls := "SeanceStreetModel", name := "where", desc := "()I" } : Jvm.MethodName) prog_15_method_42_code (1 : Nat) (Option.some Jvm.ClassFile.FieldType.int)) ∈ lw_all := lw_g (lw_at lw_m7 225 rfl) rfl
theorem q1784 : (Jvm.Cond.instanceMethod ({ cls := "SeanceStreetModel", name := "person", desc := "(II)I" } : Jvm.MethodName)) ∈ lw_all := lw_g (lw_at lw_m7 227 rfl) rfl
theorem q1785 : (Jvm.Cond.selects "SeanceStreetModel" ({ cls := "SeanceStreetModel", name := "person", desc := "(II)I" } : Jvm.MethodName) ({ cls := "SeanceStreetModel", name := "person", desc := "(II)I" } : Jvm.MethodName)) ∈ lw_all := lw_g (lw_at lw_m7 228 rfl) rfl
theorem q1786 : (Jvm.Cond.code ({ cls := "SeanceStreetModel", name := "person", desc := "(II)I" } : Jvm.MethodName) prog_15_method_58_code (5 : Nat) (Option.some Jvm.ClassFile.FieldType.int)) ∈ lw_all := lw_g (lw_at lw_m7 229 rfl) rfl
theorem q1787 : (Jvm.Cond.methodLink "SeanceStreetModel" (339 : Nat) ({ cls := "SeanceStreetModel", name := "isPerson", desc := "(I)Z" } : Jvm.MethodName)) ∈ lw_all := lw_g (lw_at lw_m7 230 rfl) rfl
theorem q1788 : (Jvm.Cond.privateMethod ({ cls := "SeanceStreetModel", name := "isPerson", desc := "(I)Z" } : Jvm.MethodName)) ∈ lw_tbl := lw_at lw_m7 231 rfl
theorem q1789 : (Jvm.Cond.instanceMethod ({ cls := "SeanceStreetModel", name := "isPerson", desc := "(I)Z" } : Jvm.MethodName)) ∈ lw_all := lw_g (lw_at lw_m7 232 rfl) rfl
theorem q1790 : (Jvm.Cond.code ({ cls := "SeanceStreetModel", name := "isPerson", desc := "(I)Z" } : Jvm.MethodName) prog_15_method_43_code (2 : Nat) (Option.some Jvm.ClassFile.FieldType.boolean)) ∈ lw_all := lw_g (lw_at lw_m7 233 rfl) rfl
theorem q1791 : (Jvm.Cond.methodLink "SeanceStreetModel" (342 : Nat) ({ cls := "SeanceStreetModel", name := "works", desc := "()V" } : Jvm.MethodName)) ∈ lw_all := lw_g (lw_at lw_m7 234 rfl) rfl
theorem q1792 : (Jvm.Cond.privateMethod ({ cls := "SeanceStreetModel", name := "works", desc := "()V" } : Jvm.MethodName)) ∈ lw_tbl := lw_at lw_m7 235 rfl
theorem q1793 : (Jvm.Cond.instanceMethod ({ cls := "SeanceStreetModel", name := "works", desc := "()V" } : Jvm.MethodName)) ∈ lw_all := lw_g (lw_at lw_m7 236 rfl) rfl
theorem q1794 : (Jvm.Cond.code ({ cls := "SeanceStreetModel", name := "works", desc := "()V" } : Jvm.MethodName) prog_15_method_46_code (2 : Nat) (Option.none : Option Jvm.ClassFile.FieldType)) ∈ lw_all := lw_g (lw_at lw_m7 237 rfl) rfl
theorem q1795 : (Jvm.Cond.methodLink "SeanceStreetModel" (345 : Nat) ({ cls := "SeanceStreetModel", name := "heardOf", desc := "(II)I" } : Jvm.MethodName)) ∈ lw_all := lw_g (lw_at lw_m7 238 rfl) rfl
theorem q1796 : (Jvm.Cond.privateMethod ({ cls := "SeanceStreetModel", name := "heardOf", desc := "(II)I" } : Jvm.MethodName)) ∈ lw_tbl := lw_at lw_m7 239 rfl
theorem q1797 : (Jvm.Cond.instanceMethod ({ cls := "SeanceStreetModel", name := "heardOf", desc := "(II)I" } : Jvm.MethodName)) ∈ lw_all := lw_g (lw_at lw_m8 0 rfl) rfl
theorem q1798 : (Jvm.Cond.code ({ cls := "SeanceStreetModel", name := "heardOf", desc := "(II)I" } : Jvm.MethodName) prog_15_method_57_code (5 : Nat) (Option.some Jvm.ClassFile.FieldType.int)) ∈ lw_all := lw_g (lw_at lw_m8 1 rfl) rfl
theorem q1799 : (Jvm.Cond.methodLink "SeanceStreetModel" (333 : Nat) ({ cls := "SeanceStreetModel", name := "whoHears", desc := "(II)I" } : Jvm.MethodName)) ∈ lw_all := lw_g (lw_at lw_m8 2 rfl) rfl
theorem q1800 : (Jvm.Cond.privateMethod ({ cls := "SeanceStreetModel", name := "whoHears", desc := "(II)I" } : Jvm.MethodName)) ∈ lw_tbl := lw_at lw_m8 3 rfl
theorem q1801 : (Jvm.Cond.instanceMethod ({ cls := "SeanceStreetModel", name := "whoHears", desc := "(II)I" } : Jvm.MethodName)) ∈ lw_all := lw_g (lw_at lw_m8 4 rfl) rfl
theorem q1802 : (Jvm.Cond.code ({ cls := "SeanceStreetModel", name := "whoHears", desc := "(II)I" } : Jvm.MethodName) prog_15_method_53_code (3 : Nat) (Option.some Jvm.ClassFile.FieldType.int)) ∈ lw_all := lw_g (lw_at lw_m8 5 rfl) rfl
theorem q1803 : (Jvm.Cond.methodLink "SeanceStreetModel" (323 : Nat) ({ cls := "SeanceStreetModel", name := "aimOf", desc := "(I)I" } : Jvm.MethodName)) ∈ lw_all := lw_g (lw_at lw_m8 6 rfl) rfl
theorem q1804 : (Jvm.Cond.privateMethod ({ cls := "SeanceStreetModel", name := "aimOf", desc := "(I)I" } : Jvm.MethodName)) ∈ lw_tbl := lw_at lw_m8 7 rfl
theorem q1805 : (Jvm.Cond.instanceMethod ({ cls := "SeanceStreetModel", name := "aimOf", desc := "(I)I" } : Jvm.MethodName)) ∈ lw_all := lw_g (lw_at lw_m8 8 rfl) rfl
theorem q1806 : (Jvm.Cond.code ({ cls := "SeanceStreetModel", name := "aimOf", desc := "(I)I" } : Jvm.MethodName) prog_15_method_52_code (2 : Nat) (Option.some Jvm.ClassFile.FieldType.int)) ∈ lw_all := lw_g (lw_at lw_m8 9 rfl) rfl
theorem q1807 : (Jvm.Cond.methodLink "SeanceStreetModel" (326 : Nat) ({ cls := "SeanceStreetModel", name := "outOf", desc := "(III)I" } : Jvm.MethodName)) ∈ lw_all := lw_g (lw_at lw_m8 10 rfl) rfl
theorem q1808 : (Jvm.Cond.privateMethod ({ cls := "SeanceStreetModel", name := "outOf", desc := "(III)I" } : Jvm.MethodName)) ∈ lw_tbl := lw_at lw_m8 11 rfl
theorem q1809 : (Jvm.Cond.instanceMethod ({ cls := "SeanceStreetModel", name := "outOf", desc := "(III)I" } : Jvm.MethodName)) ∈ lw_all := lw_g (lw_at lw_m8 12 rfl) rfl
theorem q1810 : (Jvm.Cond.code ({ cls := "SeanceStreetModel", name := "outOf", desc := "(III)I" } : Jvm.MethodName) prog_15_method_49_code (9 : Nat) (Option.some Jvm.ClassFile.FieldType.int)) ∈ lw_all := lw_g (lw_at lw_m8 13 rfl) rfl
theorem q1811 : (Jvm.Cond.methodLink "SeanceStreetModel" (317 : Nat) ({ cls := "SeanceStreetModel", name := "around", desc := "(J)I" } : Jvm.MethodName)) ∈ lw_all := lw_g (lw_at lw_m8 14 rfl) rfl
theorem q1812 : (Jvm.Cond.privateMethod ({ cls := "SeanceStreetModel", name := "around", desc := "(J)I" } : Jvm.MethodName)) ∈ lw_tbl := lw_at lw_m8 15 rfl
theorem q1813 : (Jvm.Cond.instanceMethod ({ cls := "SeanceStreetModel", name := "around", desc := "(J)I" } : Jvm.MethodName)) ∈ lw_all := lw_g (lw_at lw_m8 16 rfl) rfl
theorem q1814 : (Jvm.Cond.code ({ cls := "SeanceStreetModel", name := "around", desc := "(J)I" } : Jvm.MethodName) prog_15_method_48_code (3 : Nat) (Option.some Jvm.ClassFile.FieldType.int)) ∈ lw_all := lw_g (lw_at lw_m8 17 rfl) rfl
theorem q1815 : (Jvm.Cond.methodLink "SeanceStreetModel" (330 : Nat) ({ cls := "SeanceStreetModel", name := "heardFrom", desc := "(I)I" } : Jvm.MethodName)) ∈ lw_all := lw_g (lw_at lw_m8 18 rfl) rfl
theorem q1816 : (Jvm.Cond.privateMethod ({ cls := "SeanceStreetModel", name := "heardFrom", desc := "(I)I" } : Jvm.MethodName)) ∈ lw_tbl := lw_at lw_m8 19 rfl
theorem q1817 : (Jvm.Cond.instanceMethod ({ cls := "SeanceStreetModel", name := "heardFrom", desc := "(I)I" } : Jvm.MethodName)) ∈ lw_all := lw_g (lw_at lw_m8 20 rfl) rfl
theorem q1818 : (Jvm.Cond.code ({ cls := "SeanceStreetModel", name := "heardFrom", desc := "(I)I" } : Jvm.MethodName) prog_15_method_51_code (3 : Nat) (Option.some Jvm.ClassFile.FieldType.int)) ∈ lw_all := lw_g (lw_at lw_m8 21 rfl) rfl
theorem q1819 : (Jvm.Cond.methodLink "SeanceStreetModel" (320 : Nat) ({ cls := "SeanceStreetModel", name := "whoIn", desc := "(I)I" } : Jvm.MethodName)) ∈ lw_all := lw_g (lw_at lw_m8 22 rfl) rfl
theorem q1820 : (Jvm.Cond.privateMethod ({ cls := "SeanceStreetModel", name := "whoIn", desc := "(I)I" } : Jvm.MethodName)) ∈ lw_tbl := lw_at lw_m8 23 rfl
theorem q1821 : (Jvm.Cond.instanceMethod ({ cls := "SeanceStreetModel", name := "whoIn", desc := "(I)I" } : Jvm.MethodName)) ∈ lw_all := lw_g (lw_at lw_m8 24 rfl) rfl
theorem q1822 : (Jvm.Cond.code ({ cls := "SeanceStreetModel", name := "whoIn", desc := "(I)I" } : Jvm.MethodName) prog_15_method_50_code (3 : Nat) (Option.some Jvm.ClassFile.FieldType.int)) ∈ lw_all := lw_g (lw_at lw_m8 25 rfl) rfl
theorem q1824 : (Jvm.Cond.instanceMethod ({ cls := "SeanceStreetModel", name := "dead", desc := "(II)I" } : Jvm.MethodName)) ∈ lw_all := lw_g (lw_at lw_m8 27 rfl) rfl
theorem q1825 : (Jvm.Cond.selects "SeanceStreetModel" ({ cls := "SeanceStreetModel", name := "dead", desc := "(II)I" } : Jvm.MethodName) ({ cls := "SeanceStreetModel", name := "dead", desc := "(II)I" } : Jvm.MethodName)) ∈ lw_all := lw_g (lw_at lw_m8 28 rfl) rfl
theorem q1826 : (Jvm.Cond.code ({ cls := "SeanceStreetModel", name := "dead", desc := "(II)I" } : Jvm.MethodName) prog_15_method_59_code (3 : Nat) (Option.some Jvm.ClassFile.FieldType.int)) ∈ lw_all := lw_g (lw_at lw_m8 29 rfl) rfl
theorem q1827 : (Jvm.Cond.methodLink "SeanceStreetModel" (348 : Nat) ({ cls := "SeanceStreetModel", name := "isDead", desc := "(I)Z" } : Jvm.MethodName)) ∈ lw_all := lw_g (lw_at lw_m8 30 rfl) rfl
theorem q1828 : (Jvm.Cond.privateMethod ({ cls := "SeanceStreetModel", name := "isDead", desc := "(I)Z" } : Jvm.MethodName)) ∈ lw_tbl := lw_at lw_m8 31 rfl
theorem q1829 : (Jvm.Cond.instanceMethod ({ cls := "SeanceStreetModel", name := "isDead", desc := "(I)Z" } : Jvm.MethodName)) ∈ lw_all := lw_g (lw_at lw_m8 32 rfl) rfl
theorem q1830 : (Jvm.Cond.code ({ cls := "SeanceStreetModel", name := "isDead", desc := "(I)Z" } : Jvm.MethodName) prog_15_method_44_code (2 : Nat) (Option.some Jvm.ClassFile.FieldType.boolean)) ∈ lw_all := lw_g (lw_at lw_m8 33 rfl) rfl
theorem q1832 : (Jvm.Cond.instanceMethod ({ cls := "SeanceStreetModel", name := "house", desc := "(I)I" } : Jvm.MethodName)) ∈ lw_all := lw_g (lw_at lw_m8 35 rfl) rfl
theorem q1833 : (Jvm.Cond.selects "SeanceStreetModel" ({ cls := "SeanceStreetModel", name := "house", desc := "(I)I" } : Jvm.MethodName) ({ cls := "SeanceStreetModel", name := "house", desc := "(I)I" } : Jvm.MethodName)) ∈ lw_all := lw_g (lw_at lw_m8 36 rfl) rfl
theorem q1834 : (Jvm.Cond.code ({ cls := "SeanceStreetModel", name := "house", desc := "(I)I" } : Jvm.MethodName) prog_15_method_60_code (2 : Nat) (Option.some Jvm.ClassFile.FieldType.int)) ∈ lw_all := lw_g (lw_at lw_m8 37 rfl) rfl
theorem q1835 : (Jvm.Cond.methodLink "SeanceStreetModel" (351 : Nat) ({ cls := "SeanceStreetModel", name := "isHouse", desc := "(I)Z" } : Jvm.MethodName)) ∈ lw_all := lw_g (lw_at lw_m8 38 rfl) rfl
theorem q1836 : (Jvm.Cond.privateMethod ({ cls := "SeanceStreetModel", name := "isHouse", desc := "(I)Z" } : Jvm.MethodName)) ∈ lw_tbl := lw_at lw_m8 39 rfl
theorem q1837 : (Jvm.Cond.instanceMethod ({ cls := "SeanceStreetModel", name := "isHouse", desc := "(I)Z" } : Jvm.MethodName)) ∈ lw_all := lw_g (lw_at lw_m8 40 rfl) rfl
theorem q1838 : (Jvm.Cond.code ({ cls := "SeanceStreetModel", name := "isHouse", desc := "(I)Z" } : Jvm.MethodName) prog_15_method_45_code (2 : Nat) (Option.some Jvm.ClassFile.FieldType.boolean)) ∈ lw_all := lw_g (lw_at lw_m8 41 rfl) rfl
theorem q1840 : (Jvm.Cond.instanceMethod ({ cls := "SeanceStreetModel", name := "comesOut", desc := "(II)I" } : Jvm.MethodName)) ∈ lw_all := lw_g (lw_at lw_m8 43 rfl) rfl
theorem q1841 : (Jvm.Cond.selects "SeanceStreetModel" ({ cls := "SeanceStreetModel", name := "comesOut", desc := "(II)I" } : Jvm.MethodName) ({ cls := "SeanceStreetModel", name := "comesOut", desc := "(II)I" } : Jvm.MethodName)) ∈ lw_all := lw_g (lw_at lw_m8 44 rfl) rfl
theorem q1842 : (Jvm.Cond.code ({ cls := "SeanceStreetModel", name := "comesOut", desc := "(II)I" } : Jvm.MethodName) prog_15_method_61_code (4 : Nat) (Option.some Jvm.ClassFile.FieldType.int)) ∈ lw_all := lw_g (lw_at lw_m8 45 rfl) rfl
theorem q1843 : (Jvm.Cond.methodLink "SeanceStreetModel" (354 : Nat) ({ cls := "SeanceStreetModel", name := "refusesNight", desc := "(ZI)I" } : Jvm.MethodName)) ∈ lw_all := lw_g (lw_at lw_m8 46 rfl) rfl
theorem q1844 : (Jvm.Cond.privateMethod ({ cls := "SeanceStreetModel", name := "refusesNight", desc := "(ZI)I" } : Jvm.MethodName)) ∈ lw_tbl := lw_at lw_m8 47 rfl
theorem q1845 : (Jvm.Cond.instanceMethod ({ cls := "SeanceStreetModel", name := "refusesNight", desc := "(ZI)I" } : Jvm.MethodName)) ∈ lw_all := lw_g (lw_at lw_m8 48 rfl) rfl
theorem q1846 : (Jvm.Cond.code ({ cls := "SeanceStreetModel", name := "refusesNight", desc := "(ZI)I" } : Jvm.MethodName) prog_15_method_56_code (3 : Nat) (Option.some Jvm.ClassFile.FieldType.int)) ∈ lw_all := lw_g (lw_at lw_m8 49 rfl) rfl
theorem q1848 : (Jvm.Cond.instanceMethod ({ cls := "SeanceStreetModel", name := "outIf", desc := "(III)I" } : Jvm.MethodName)) ∈ lw_all := lw_g (lw_at lw_m8 51 rfl) rfl
theorem q1849 : (Jvm.Cond.selects "SeanceStreetModel" ({ cls := "SeanceStreetModel", name := "outIf", desc := "(III)I" } : Jvm.MethodName) ({ cls := "SeanceStreetModel", name := "outIf", desc := "(III)I" } : Jvm.MethodName)) ∈ lw_all := lw_g (lw_at lw_m8 52 rfl) rfl
theorem q1850 : (Jvm.Cond.code ({ cls := "SeanceStreetModel", name := "outIf", desc := "(III)I" } : Jvm.MethodName) prog_15_method_62_code (5 : Nat) (Option.some Jvm.ClassFile.FieldType.int)) ∈ lw_all := lw_g (lw_at lw_m8 53 rfl) rfl
theorem q1852 : (Jvm.Cond.instanceMethod ({ cls := "SeanceStreetModel", name := "hears", desc := "(II)I" } : Jvm.MethodName)) ∈ lw_all := lw_g (lw_at lw_m8 55 rfl) rfl
theorem q1853 : (Jvm.Cond.selects "SeanceStreetModel" ({ cls := "SeanceStreetModel", name := "hears", desc := "(II)I" } : Jvm.MethodName) ({ cls := "SeanceStreetModel", name := "hears", desc := "(II)I" } : Jvm.MethodName)) ∈ lw_all := lw_g (lw_at lw_m8 56 rfl) rfl
theorem q1854 : (Jvm.Cond.code ({ cls := "SeanceStreetModel", name := "hears", desc := "(II)I" } : Jvm.MethodName) prog_15_method_63_code (4 : Nat) (Option.some Jvm.ClassFile.FieldType.int)) ∈ lw_all := lw_g (lw_at lw_m8 57 rfl) rfl
theorem q1856 : (Jvm.Cond.instanceMethod ({ cls := "SeanceStreetModel", name := "off", desc := "(II)I" } : Jvm.MethodName)) ∈ lw_all := lw_g (lw_at lw_m8 59 rfl) rfl
theorem q1857 : (Jvm.Cond.selects "SeanceStreetModel" ({ cls := "SeanceStreetModel", name := "off", desc := "(II)I" } : Jvm.MethodName) ({ cls := "SeanceStreetModel", name := "off", desc := "(II)I" } : Jvm.MethodName)) ∈ lw_all := lw_g (lw_at lw_m8 60 rfl) rfl
theorem q1858 : (Jvm.Cond.code ({ cls := "SeanceStreetModel", name := "off", desc := "(II)I" } : Jvm.MethodName) prog_15_method_64_code (4 : Nat) (Option.some Jvm.ClassFile.FieldType.int)) ∈ lw_all := lw_g (lw_at lw_m8 61 rfl) rfl
theorem q1860 : (Jvm.Cond.instanceMethod ({ cls := "SeanceStreetModel", name := "right", desc := "(I)I" } : Jvm.MethodName)) ∈ lw_all := lw_g (lw_at lw_m8 63 rfl) rfl
theorem q1861 : (Jvm.Cond.selects "SeanceStreetModel" ({ cls := "SeanceStreetModel", name := "right", desc := "(I)I" } : Jvm.MethodName) ({ cls := "SeanceStreetModel", name := "right", desc := "(I)I" } : Jvm.MethodName)) ∈ lw_all := lw_g (lw_at lw_m8 64 rfl) rfl
theorem q1862 : (Jvm.Cond.code ({ cls := "SeanceStreetModel", name := "right", desc := "(I)I" } : Jvm.MethodName) prog_15_method_65_code (3 : Nat) (Option.some Jvm.ClassFile.FieldType.int)) ∈ lw_all := lw_g (lw_at lw_m8 65 rfl) rfl
theorem q1863 : (Jvm.Cond.methodLink "SeanceStreetModel" (358 : Nat) ({ cls := "SeanceStreetModel", name := "rightOn", desc := "(I)I" } : Jvm.MethodName)) ∈ lw_all := lw_g (lw_at lw_m8 66 rfl) rfl
theorem q1864 : (Jvm.Cond.privateMethod ({ cls := "SeanceStreetModel", name := "rightOn", desc := "(I)I" } : Jvm.MethodName)) ∈ lw_tbl := lw_at lw_m8 67 rfl
theorem q1865 : (Jvm.Cond.instanceMethod ({ cls := "SeanceStreetModel", name := "rightOn", desc := "(I)I" } : Jvm.MethodName)) ∈ lw_all := lw_g (lw_at lw_m8 68 rfl) rfl
theorem q1866 : (Jvm.Cond.code ({ cls := "SeanceStreetModel", name := "rightOn", desc := "(I)I" } : Jvm.MethodName) prog_15_method_55_code (4 : Nat) (Option.some Jvm.ClassFile.FieldType.int)) ∈ lw_all := lw_g (lw_at lw_m8 69 rfl) rfl
theorem q1867 : (Jvm.Cond.methodLink "SeanceStreetModel" (336 : Nat) ({ cls := "SeanceStreetModel", name := "isRight", desc := "(II)Z" } : Jvm.MethodName)) ∈ lw_all := lw_g (lw_at lw_m8 70 rfl) rfl
theorem q1868 : (Jvm.Cond.privateMethod ({ cls := "SeanceStreetModel", name := "isRight", desc := "(II)Z" } : Jvm.MethodName)) ∈ lw_tbl := lw_at lw_m8 71 rfl
theorem q1869 : (Jvm.Cond.instanceMethod ({ cls := "SeanceStreetModel", name := "isRight", desc := "(II)Z" } : Jvm.MethodName)) ∈ lw_all := lw_g (lw_at lw_m8 72 rfl) rfl
theorem q1870 : (Jvm.Cond.code ({ cls := "SeanceStreetModel", name := "isRight", desc := "(II)Z" } : Jvm.MethodName) prog_15_method_54_code (3 : Nat) (Option.some Jvm.ClassFile.FieldType.boolean)) ∈ lw_all := lw_g (lw_at lw_m8 73 rfl) rfl
theorem q1872 : (Jvm.Cond.instanceMethod ({ cls := "SeanceStreetModel", name := "medium", desc := "(I)I" } : Jvm.MethodName)) ∈ lw_all := lw_g (lw_at lw_m8 75 rfl) rfl
theorem q1873 : (Jvm.Cond.selects "SeanceStreetModel" ({ cls := "SeanceStreetModel", name := "medium", desc := "(I)I" } : Jvm.MethodName) ({ cls := "SeanceStreetModel", name := "medium", desc := "(I)I" } : Jvm.MethodName)) ∈ lw_all := lw_g (lw_at lw_m8 76 rfl) rfl
theorem q1874 : (Jvm.Cond.code ({ cls := "SeanceStreetModel", name := "medium", desc := "(I)I" } : Jvm.MethodName) prog_15_method_66_code (5 : Nat) (Option.some Jvm.ClassFile.FieldType.int)) ∈ lw_all := lw_g (lw_at lw_m8 77 rfl) rfl
theorem q1875 : (Jvm.Cond.methodLink "SeanceStreetModel" (361 : Nat) ({ cls := "SeanceStreetModel", name := "bits", desc := "(I)I" } : Jvm.MethodName)) ∈ lw_all := lw_g (lw_at lw_m8 78 rfl) rfl
theorem q1876 : (Jvm.Cond.static ({ cls := "SeanceStreetModel", name := "bits", desc := "(I)I" } : Jvm.MethodName)) ∈ lw_all := lw_g (lw_at lw_m8 79 rfl) rfl
theorem q1877 : (Jvm.Cond.code ({ cls := "SeanceStreetModel", name := "bits", desc := "(I)I" } : Jvm.MethodName) prog_15_method_10_code (3 : Nat) (Option.some Jvm.ClassFile.FieldType.int)) ∈ lw_all := lw_g (lw_at lw_m8 80 rfl) rfl
theorem q1879 : (Jvm.Cond.instanceMethod ({ cls := "SeanceStreetModel", name := "silent", desc := "(I)I" } : Jvm.MethodName)) ∈ lw_all := lw_g (lw_at lw_m8 82 rfl) rfl
theorem q1880 : (Jvm.Cond.selects "SeanceStreetModel" ({ cls := "SeanceStreetModel", name := "silent", desc := "(I)I" } : Jvm.MethodName) ({ cls := "SeanceStreetModel", name := "silent", desc := "(I)I" } : Jvm.MethodName)) ∈ lw_all := lw_g (lw_at lw_m8 83 rfl) rfl
theorem q1881 : (Jvm.Cond.code ({ cls := "SeanceStreetModel", name := "silent", desc := "(I)I" } : Jvm.MethodName) prog_15_method_67_code (5 : Nat) (Option.some Jvm.ClassFile.FieldType.int)) ∈ lw_all := lw_g (lw_at lw_m8 84 rfl) rfl
theorem q1883 : (Jvm.Cond.instanceMethod ({ cls := "SeanceStreetModel", name := "rightFrom", desc := "(II)I" } : Jvm.MethodName)) ∈ lw_all := lw_g (lw_at lw_m8 86 rfl) rfl
theorem q1884 : (Jvm.Cond.selects "SeanceStreetModel" ({ cls := "SeanceStreetModel", name := "rightFrom", desc := "(II)I" } : Jvm.MethodName) ({ cls := "SeanceStreetModel", name := "rightFrom", desc := "(II)I" } : Jvm.MethodName)) ∈ lw_all := lw_g (lw_at lw_m8 87 rfl) rfl
theorem q1885 : (Jvm.Cond.code ({ cls := "SeanceStreetModel", name := "rightFrom", desc := "(II)I" } : Jvm.MethodName) prog_15_method_68_code (5 : Nat) (Option.some Jvm.ClassFile.FieldType.int)) ∈ lw_all := lw_g (lw_at lw_m8 88 rfl) rfl
theorem q1887 : (Jvm.Cond.instanceMethod ({ cls := "SeanceStreetModel", name := "nightsOf", desc := "(II)I" } : Jvm.MethodName)) ∈ lw_all := lw_g (lw_at lw_m8 90 rfl) rfl
theorem q1888 : (Jvm.Cond.selects "SeanceStreetModel" ({ cls := "SeanceStreetModel", name := "nightsOf", desc := "(II)I" } : Jvm.MethodName) ({ cls := "SeanceStreetModel", name := "nightsOf", desc := "(II)I" } : Jvm.MethodName)) ∈ lw_all := lw_g (lw_at lw_m8 91 rfl) rfl
theorem q1889 : (Jvm.Cond.code ({ cls := "SeanceStreetModel", name := "nightsOf", desc := "(II)I" } : Jvm.MethodName) prog_15_method_69_code (5 : Nat) (Option.some Jvm.ClassFile.FieldType.int)) ∈ lw_all := lw_g (lw_at lw_m8 92 rfl) rfl
theorem q1891 : (Jvm.Cond.instanceMethod ({ cls := "SeanceStreetModel", name := "round", desc := "(I)I" } : Jvm.MethodName)) ∈ lw_all := lw_g (lw_at lw_m8 94 rfl) rfl
theorem q1892 : (Jvm.Cond.selects "SeanceStreetModel" ({ cls := "SeanceStreetModel", name := "round", desc := "(I)I" } : Jvm.MethodName) ({ cls := "SeanceStreetModel", name := "round", desc := "(I)I" } : Jvm.MethodName)) ∈ lw_all := lw_g (lw_at lw_m8 95 rfl) rfl
theorem q1893 : (Jvm.Cond.code ({ cls := "SeanceStreetModel", name := "round", desc := "(I)I" } : Jvm.MethodName) prog_15_method_71_code (3 : Nat) (Option.some Jvm.ClassFile.FieldType.int)) ∈ lw_all := lw_g (lw_at lw_m8 96 rfl) rfl
theorem q1894 : (Jvm.Cond.methodLink "SeanceStreetModel" (364 : Nat) ({ cls := "SeanceStreetModel", name := "comesRound", desc := "(II)Z" } : Jvm.MethodName)) ∈ lw_all := lw_g (lw_at lw_m8 97 rfl) rfl
theorem q1895 : (Jvm.Cond.privateMethod ({ cls := "SeanceStreetModel", name := "comesRound", desc := "(II)Z" } : Jvm.MethodName)) ∈ lw_tbl := lw_at lw_m8 98 rfl
theorem q1896 : (Jvm.Cond.instanceMethod ({ cls := "SeanceStreetModel", name := "comesRound", desc := "(II)Z" } : Jvm.MethodName)) ∈ lw_all := lw_g (lw_at lw_m8 99 rfl) rfl
theorem q1897 : (Jvm.Cond.code ({ cls := "SeanceStreetModel", name := "comesRound", desc := "(II)Z" } : Jvm.MethodName) prog_15_method_70_code (4 : Nat) (Option.some Jvm.ClassFile.FieldType.boolean)) ∈ lw_all := lw_g (lw_at lw_m8 100 rfl) rfl
theorem q1899 : (Jvm.Cond.instanceMethod ({ cls := "SeanceStreetModel", name := "bestNight", desc := "()I" } : Jvm.MethodName)) ∈ lw_all := lw_g (lw_at lw_m8 102 rfl) rfl
theorem q1900 : (Jvm.Cond.selects "SeanceStreetModel" ({ cls := "SeanceStreetModel", name := "bestNight", desc := "()I" } : Jvm.MethodName) ({ cls := "SeanceStreetModel", name := "bestNight", desc := "()I" } : Jvm.MethodName)) ∈ lw_all := lw_g (lw_at lw_m8 103 rfl) rfl
theorem q1901 : (Jvm.Cond.code ({ cls := "SeanceStreetModel", name := "bestNight", desc := "()I" } : Jvm.MethodName) prog_15_method_72_code (5 : Nat) (Option.some Jvm.ClassFile.FieldType.int)) ∈ lw_all := lw_g (lw_at lw_m8 104 rfl) rfl
theorem q1903 : (Jvm.Cond.instanceMethod ({ cls := "SeanceStreetModel", name := "perfect", desc := "()I" } : Jvm.MethodName)) ∈ lw_all := lw_g (lw_at lw_m8 106 rfl) rfl
theorem q1904 : (Jvm.Cond.selects "SeanceStreetModel" ({ cls := "SeanceStreetModel", name := "perfect", desc := "()I" } : Jvm.MethodName) ({ cls := "SeanceStreetModel", name := "perfect", desc := "()I" } : Jvm.MethodName)) ∈ lw_all := lw_g (lw_at lw_m8 107 rfl) rfl
theorem q1905 : (Jvm.Cond.code ({ cls := "SeanceStreetModel", name := "perfect", desc := "()I" } : Jvm.MethodName) prog_15_method_73_code (3 : Nat) (Option.some Jvm.ClassFile.FieldType.int)) ∈ lw_all := lw_g (lw_at lw_m8 108 rfl) rfl
theorem q1907 : (Jvm.Cond.instanceMethod ({ cls := "SeanceStreetModel", name := "together", desc := "(II)I" } : Jvm.MethodName)) ∈ lw_all := lw_g (lw_at lw_m8 110 rfl) rfl
theorem q1908 : (Jvm.Cond.selects "SeanceStreetModel" ({ cls := "SeanceStreetModel", name := "together", desc := "(II)I" } : Jvm.MethodName) ({ cls := "SeanceStreetModel", name := "together", desc := "(II)I" } : Jvm.MethodName)) ∈ lw_all := lw_g (lw_at lw_m8 111 rfl) rfl
theorem q1909 : (Jvm.Cond.code ({ cls := "SeanceStreetModel", name := "together", desc := "(II)I" } : Jvm.MethodName) prog_15_method_74_code (4 : Nat) (Option.some Jvm.ClassFile.FieldType.int)) ∈ lw_all := lw_g (lw_at lw_m8 112 rfl) rfl
theorem q1911 : (Jvm.Cond.instanceMethod ({ cls := "SeanceStreetModel", name := "aimFor", desc := "(III)I" } : Jvm.MethodName)) ∈ lw_all := lw_g (lw_at lw_m8 114 rfl) rfl
theorem q1912 : (Jvm.Cond.selects "SeanceStreetModel" ({ cls := "SeanceStreetModel", name := "aimFor", desc := "(III)I" } : Jvm.MethodName) ({ cls := "SeanceStreetModel", name := "aimFor", desc := "(III)I" } : Jvm.MethodName)) ∈ lw_all := lw_g (lw_at lw_m8 115 rfl) rfl
theorem q1913 : (Jvm.Cond.code ({ cls := "SeanceStreetModel", name := "aimFor", desc := "(III)I" } : Jvm.MethodName) prog_15_method_75_code (6 : Nat) (Option.some Jvm.ClassFile.FieldType.int)) ∈ lw_all := lw_g (lw_at lw_m8 116 rfl) rfl
theorem q1915 : (Jvm.Cond.instanceMethod ({ cls := "SeanceStreetModel", name := "aims", desc := "(III)I" } : Jvm.MethodName)) ∈ lw_all := lw_g (lw_at lw_m8 118 rfl) rfl
theorem q1916 : (Jvm.Cond.selects "SeanceStreetModel" ({ cls := "SeanceStreetModel", name := "aims", desc := "(III)I" } : Jvm.MethodName) ({ cls := "SeanceStreetModel", name := "aims", desc := "(III)I" } : Jvm.MethodName)) ∈ lw_all := lw_g (lw_at lw_m8 119 rfl) rfl
theorem q1917 : (Jvm.Cond.code ({ cls := "SeanceStreetModel", name := "aims", desc := "(III)I" } : Jvm.MethodName) prog_15_method_76_code (7 : Nat) (Option.some Jvm.ClassFile.FieldType.int)) ∈ lw_all := lw_g (lw_at lw_m8 120 rfl) rfl
theorem q1919 : (Jvm.Cond.instanceMethod ({ cls := "SeanceStreetModel", name := "mirrorFor", desc := "(II)I" } : Jvm.MethodName)) ∈ lw_all := lw_g (lw_at lw_m8 122 rfl) rfl
theorem q1920 : (Jvm.Cond.selects "SeanceStreetModel" ({ cls := "SeanceStreetModel", name := "mirrorFor", desc := "(II)I" } : Jvm.MethodName) ({ cls := "SeanceStreetModel", name := "mirrorFor", desc := "(II)I" } : Jvm.MethodName)) ∈ lw_all := lw_g (lw_at lw_m8 123 rfl) rfl
theorem q1921 : (Jvm.Cond.code ({ cls := "SeanceStreetModel", name := "mirrorFor", desc := "(II)I" } : Jvm.MethodName) prog_15_method_77_code (5 : Nat) (Option.some Jvm.ClassFile.FieldType.int)) ∈ lw_all := lw_g (lw_at lw_m8 124 rfl) rfl
theorem q1923 : (Jvm.Cond.instanceMethod ({ cls := "SeanceStreetModel", name := "mirrorBest", desc := "(I)I" } : Jvm.MethodName)) ∈ lw_all := lw_g (lw_at lw_m8 126 rfl) rfl
theorem q1924 : (Jvm.Cond.selects "SeanceStreetModel" ({ cls := "SeanceStreetModel", name := "mirrorBest", desc := "(I)I" } : Jvm.MethodName) ({ cls := "SeanceStreetModel", name := "mirrorBest", desc := "(I)I" } : Jvm.MethodName)) ∈ lw_all := lw_g (lw_at lw_m8 127 rfl) rfl
theorem q1925 : (Jvm.Cond.code ({ cls := "SeanceStreetModel", name := "mirrorBest", desc := "(I)I" } : Jvm.MethodName) prog_15_method_78_code (7 : Nat) (Option.some Jvm.ClassFile.FieldType.int)) ∈ lw_all := lw_g (lw_at lw_m8 128 rfl) rfl
theorem q1927 : (Jvm.Cond.instanceMethod ({ cls := "SeanceStreetModel", name := "slipFor", desc := "(II)I" } : Jvm.MethodName)) ∈ lw_all := lw_g (lw_at lw_m8 130 rfl) rfl
theorem q1928 : (Jvm.Cond.selects "SeanceStreetModel" ({ cls := "SeanceStreetModel", name := "slipFor", desc := "(II)I" } : Jvm.MethodName) ({ cls := "SeanceStreetModel", name := "slipFor", desc := "(II)I" } : Jvm.MethodName)) ∈ lw_all := lw_g (lw_at lw_m8 131 rfl) rfl
theorem q1929 : (Jvm.Cond.code ({ cls := "SeanceStreetModel", name := "slipFor", desc := "(II)I" } : Jvm.MethodName) prog_15_method_79_code (5 : Nat) (Option.some Jvm.ClassFile.FieldType.int)) ∈ lw_all := lw_g (lw_at lw_m8 132 rfl) rfl
theorem q1931 : (Jvm.Cond.instanceMethod ({ cls := "SeanceStreetModel", name := "seat", desc := "(I)I" } : Jvm.MethodName)) ∈ lw_all := lw_g (lw_at lw_m8 134 rfl) rfl
theorem q1932 : (Jvm.Cond.selects "SeanceStreetModel" ({ cls := "SeanceStreetModel", name := "seat", desc := "(I)I" } : Jvm.MethodName) ({ cls := "SeanceStreetModel", name := "seat", desc := "(I)I" } : Jvm.MethodName)) ∈ lw_all := lw_g (lw_at lw_m8 135 rfl) rfl
theorem q1933 : (Jvm.Cond.code ({ cls := "SeanceStreetModel", name := "seat", desc := "(I)I" } : Jvm.MethodName) prog_15_method_83_code (3 : Nat) (Option.some Jvm.ClassFile.FieldType.int)) ∈ lw_all := lw_g (lw_at lw_m8 136 rfl) rfl
theorem q1934 : (Jvm.Cond.methodLink "SeanceStreetModel" (376 : Nat) ({ cls := "SeanceStreetModel", name := "seating", desc := "(I)V" } : Jvm.MethodName)) ∈ lw_all := lw_g (lw_at lw_m8 137 rfl) rfl
theorem q1935 : (Jvm.Cond.privateMethod ({ cls := "SeanceStreetModel", name := "seating", desc := "(I)V" } : Jvm.MethodName)) ∈ lw_tbl := lw_at lw_m8 138 rfl
theorem q1936 : (Jvm.Cond.instanceMethod ({ cls := "SeanceStreetModel", name := "seating", desc := "(I)V" } : Jvm.MethodName)) ∈ lw_all := lw_g (lw_at lw_m8 139 rfl) rfl
theorem q1937 : (Jvm.Cond.code ({ cls := "SeanceStreetModel", name := "seating", desc := "(I)V" } : Jvm.MethodName) prog_15_method_82_code (6 : Nat) (Option.none : Option Jvm.ClassFile.FieldType)) ∈ lw_all := lw_g (lw_at lw_m8 140 rfl) rfl
theorem q1938 : (Jvm.Cond.methodLink "SeanceStreetModel" (367 : Nat) ({ cls := "SeanceStreetModel", name := "frees", desc := "()V" } : Jvm.MethodName)) ∈ lw_all := lw_g (lw_at lw_m8 141 rfl) rfl
theorem q1939 : (Jvm.Cond.privateMethod ({ cls := "SeanceStreetModel", name := "frees", desc := "()V" } : Jvm.MethodName)) ∈ lw_tbl := lw_at lw_m8 142 rfl
theorem q1940 : (Jvm.Cond.instanceMethod ({ cls := "SeanceStreetModel", name := "frees", desc := "()V" } : Jvm.MethodName)) ∈ lw_all := lw_g (lw_at lw_m8 143 rfl) rfl
theorem q1941 : (Jvm.Cond.code ({ cls := "SeanceStreetModel", name := "frees", desc := "()V" } : Jvm.MethodName) prog_15_method_80_code (3 : Nat) (Option.none : Option Jvm.ClassFile.FieldType)) ∈ lw_all := lw_g (lw_at lw_m8 144 rfl) rfl
theorem q1942 : (Jvm.Cond.methodLink "SeanceStreetModel" (373 : Nat) ({ cls := "SeanceStreetModel", name := "seats", desc := "(I)V" } : Jvm.MethodName)) ∈ lw_all := lw_g (lw_at lw_m8 145 rfl) rfl
theorem q1943 : (Jvm.Cond.privateMethod ({ cls := "SeanceStreetModel", name := "seats", desc := "(I)V" } : Jvm.MethodName)) ∈ lw_tbl := lw_at lw_m8 146 rfl
theorem q1944 : (Jvm.Cond.instanceMethod ({ cls := "SeanceStreetModel", name := "seats", desc := "(I)V" } : Jvm.MethodName)) ∈ lw_all := lw_g (lw_at lw_m8 147 rfl) rfl
theorem q1945 : (Jvm.Cond.code ({ cls := "SeanceStreetModel", name := "seats", desc := "(I)V" } : Jvm.MethodName) prog_15_method_81_code (8 : Nat) (Option.none : Option Jvm.ClassFile.FieldType)) ∈ lw_all := lw_g (lw_at lw_m8 148 rfl) rfl
theorem q1947 : (Jvm.Cond.instanceMethod ({ cls := "SeanceStreetModel", name := "seatAt", desc := "(II)I" } : Jvm.MethodName)) ∈ lw_all := lw_g (lw_at lw_m8 150 rfl) rfl
theorem q1948 : (Jvm.Cond.selects "SeanceStreetModel" ({ cls := "SeanceStreetModel", name := "seatAt", desc := "(II)I" } : Jvm.MethodName) ({ cls := "SeanceStreetModel", name := "seatAt", desc := "(II)I" } : Jvm.MethodName)) ∈ lw_all := lw_g (lw_at lw_m8 151 rfl) rfl
theorem q1949 : (Jvm.Cond.code ({ cls := "SeanceStreetModel", name := "seatAt", desc := "(II)I" } : Jvm.MethodName) prog_15_method_84_code (4 : Nat) (Option.some Jvm.ClassFile.FieldType.int)) ∈ lw_all := lw_g (lw_at lw_m8 152 rfl) rfl
theorem q1951 : (Jvm.Cond.instanceMethod ({ cls := "SeanceStreetModel", name := "likes", desc := "(III)I" } : Jvm.MethodName)) ∈ lw_all := lw_g (lw_at lw_m8 154 rfl) rfl
theorem q1952 : (Jvm.Cond.selects "SeanceStreetModel" ({ cls := "SeanceStreetModel", name := "likes", desc := "(III)I" } : Jvm.MethodName) ({ cls := "SeanceStreetModel", name := "likes", desc := "(III)I" } : Jvm.MethodName)) ∈ lw_all := lw_g (lw_at lw_m8 155 rfl) rfl
theorem q1953 : (Jvm.Cond.code ({ cls := "SeanceStreetModel", name := "likes", desc := "(III)I" } : Jvm.MethodName) prog_15_method_88_code (5 : Nat) (Option.some Jvm.ClassFile.FieldType.int)) ∈ lw_all := lw_g (lw_at lw_m8 156 rfl) rfl
theorem q1954 : (Jvm.Cond.methodLink "SeanceStreetModel" (382 : Nat) ({ cls := "SeanceStreetModel", name := "areTwo", desc := "(II)Z" } : Jvm.MethodName)) ∈ lw_all := lw_g (lw_at lw_m8 157 rfl) rfl
theorem q1955 : (Jvm.Cond.privateMethod ({ cls := "SeanceStreetModel", name := "areTwo", desc := "(II)Z" } : Jvm.MethodName)) ∈ lw_tbl := lw_at lw_m8 158 rfl
theorem q1956 : (Jvm.Cond.instanceMethod ({ cls := "SeanceStreetModel", name := "areTwo", desc := "(II)Z" } : Jvm.MethodName)) ∈ lw_all := lw_g (lw_at lw_m8 159 rfl) rfl
theorem q1957 : (Jvm.Cond.code ({ cls := "SeanceStreetModel", name := "areTwo", desc := "(II)Z" } : Jvm.MethodName) prog_15_method_87_code (3 : Nat) (Option.some Jvm.ClassFile.FieldType.boolean)) ∈ lw_all := lw_g (lw_at lw_m8 160 rfl) rfl
theorem q1958 : (Jvm.Cond.methodLink "SeanceStreetModel" (385 : Nat) ({ cls := "SeanceStreetModel", name := "isLiked", desc := "(III)Z" } : Jvm.MethodName)) ∈ lw_all := lw_g (lw_at lw_m8 161 rfl) rfl
theorem q1959 : (Jvm.Cond.privateMethod ({ cls := "SeanceStreetModel", name := "isLiked", desc := "(III)Z" } : Jvm.MethodName)) ∈ lw_tbl := lw_at lw_m8 162 rfl
theorem q1960 : (Jvm.Cond.instanceMethod ({ cls := "SeanceStreetModel", name := "isLiked", desc := "(III)Z" } : Jvm.MethodName)) ∈ lw_all := lw_g (lw_at lw_m8 163 rfl) rfl
theorem q1961 : (Jvm.Cond.code ({ cls := "SeanceStreetModel", name := "isLiked", desc := "(III)Z" } : Jvm.MethodName) prog_15_method_86_code (5 : Nat) (Option.some Jvm.ClassFile.FieldType.boolean)) ∈ lw_all := lw_g (lw_at lw_m8 164 rfl) rfl
theorem q1962 : (Jvm.Cond.methodLink "SeanceStreetModel" (379 : Nat) ({ cls := "SeanceStreetModel", name := "rightFor", desc := "(III)I" } : Jvm.MethodName)) ∈ lw_all := lw_g (lw_at lw_m8 165 rfl) rfl
theorem q1963 : (Jvm.Cond.privateMethod ({ cls := "SeanceStreetModel", name := "rightFor", desc := "(III)I" } : Jvm.MethodName)) ∈ lw_tbl := lw_at lw_m8 166 rfl
theorem q1964 : (Jvm.Cond.instanceMethod ({ cls := "SeanceStreetModel", name := "rightFor", desc := "(III)I" } : Jvm.MethodName)) ∈ lw_all := lw_g (lw_at lw_m8 167 rfl) rfl
theorem q1965 : (Jvm.Cond.code ({ cls := "SeanceStreetModel", name := "rightFor", desc := "(III)I" } : Jvm.MethodName) prog_15_method_85_code (6 : Nat) (Option.some Jvm.ClassFile.FieldType.int)) ∈ lw_all := lw_g (lw_at lw_m8 168 rfl) rfl
theorem q1967 : (Jvm.Cond.instanceMethod ({ cls := "SeanceStreetModel", name := "restless", desc := "(I)I" } : Jvm.MethodName)) ∈ lw_all := lw_g (lw_at lw_m8 170 rfl) rfl
theorem q1968 : (Jvm.Cond.selects "SeanceStreetModel" ({ cls := "SeanceStreetModel", name := "restless", desc := "(I)I" } : Jvm.MethodName) ({ cls := "SeanceStreetModel", name := "restless", desc := "(I)I" } : Jvm.MethodName)) ∈ lw_all := lw_g (lw_at lw_m8 171 rfl) rfl
theorem q1969 : (Jvm.Cond.code ({ cls := "SeanceStreetModel", name := "restless", desc := "(I)I" } : Jvm.MethodName) prog_15_method_89_code (6 : Nat) (Option.some Jvm.ClassFile.FieldType.int)) ∈ lw_all := lw_g (lw_at lw_m8 172 rfl) rfl
theorem q1971 : (Jvm.Cond.instanceMethod ({ cls := "SeanceStreetModel", name := "moveFor", desc := "(II)I" } : Jvm.MethodName)) ∈ lw_all := lw_g (lw_at lw_m8 174 rfl) rfl
theorem q1972 : (Jvm.Cond.selects "SeanceStreetModel" ({ cls := "SeanceStreetModel", name := "moveFor", desc := "(II)I" } : Jvm.MethodName) ({ cls := "SeanceStreetModel", name := "moveFor", desc := "(II)I" } : Jvm.MethodName)) ∈ lw_all := lw_g (lw_at lw_m8 175 rfl) rfl
theorem q1973 : (Jvm.Cond.code ({ cls := "SeanceStreetModel", name := "moveFor", desc := "(II)I" } : Jvm.MethodName) prog_15_method_90_code (8 : Nat) (Option.some Jvm.ClassFile.FieldType.int)) ∈ lw_all := lw_g (lw_at lw_m8 176 rfl) rfl
theorem q1975 : (Jvm.Cond.instanceMethod ({ cls := "SeanceStreetModel", name := "bring", desc := "(II)I" } : Jvm.MethodName)) ∈ lw_all := lw_g (lw_at lw_m8 178 rfl) rfl
theorem q1976 : (Jvm.Cond.selects "SeanceStreetModel" ({ cls := "SeanceStreetModel", name := "bring", desc := "(II)I" } : Jvm.MethodName) ({ cls := "SeanceStreetModel", name := "bring", desc := "(II)I" } : Jvm.MethodName)) ∈ lw_all := lw_g (lw_at lw_m8 179 rfl) rfl
theorem q1977 : (Jvm.Cond.code ({ cls := "SeanceStreetModel", name := "bring", desc := "(II)I" } : Jvm.MethodName) prog_15_method_95_code (4 : Nat) (Option.some Jvm.ClassFile.FieldType.int)) ∈ lw_all := lw_g (lw_at lw_m8 180 rfl) rfl
theorem q1978 : (Jvm.Cond.methodLink "SeanceStreetModel" (398 : Nat) ({ cls := "SeanceStreetModel", name := "brings", desc := "(II)I" } : Jvm.MethodName)) ∈ lw_all := lw_g (lw_at lw_m8 181 rfl) rfl
theorem q1979 : (Jvm.Cond.privateMethod ({ cls := "SeanceStreetModel", name := "brings", desc := "(II)I" } : Jvm.MethodName)) ∈ lw_tbl := lw_at lw_m8 182 rfl
theorem q1980 : (Jvm.Cond.instanceMethod ({ cls := "SeanceStreetModel", name := "brings", desc := "(II)I" } : Jvm.MethodName)) ∈ lw_all := lw_g (lw_at lw_m8 183 rfl) rfl
theorem q1981 : (Jvm.Cond.code ({ cls := "SeanceStreetModel", name := "brings", desc := "(II)I" } : Jvm.MethodName) prog_15_method_93_code (9 : Nat) (Option.some Jvm.ClassFile.FieldType.int)) ∈ lw_all := lw_g (lw_at lw_m8 184 rfl) rfl
theorem q1982 : (Jvm.Cond.methodLink "SeanceStreetModel" (388 : Nat) ({ cls := "SeanceStreetModel", name := "spreads", desc := "(III)V" } : Jvm.MethodName)) ∈ lw_all := lw_g (lw_at lw_m8 185 rfl) rfl
theorem q1983 : (Jvm.Cond.privateMethod ({ cls := "SeanceStreetModel", name := "spreads", desc := "(III)V" } : Jvm.MethodName)) ∈ lw_tbl := lw_at lw_m8 186 rfl
theorem q1984 : (Jvm.Cond.instanceMethod ({ cls := "SeanceStreetModel", name := "spreads", desc := "(III)V" } : Jvm.MethodName)) ∈ lw_all := lw_g (lw_at lw_m8 187 rfl) rfl
theorem q1985 : (Jvm.Cond.code ({ cls := "SeanceStreetModel", name := "spreads", desc := "(III)V" } : Jvm.MethodName) prog_15_method_94_code (7 : Nat) (Option.none : Option Jvm.ClassFile.FieldType)) ∈ lw_all := lw_g (lw_at lw_m8 188 rfl) rfl
theorem q1986 : (Jvm.Cond.methodLink "SeanceStreetModel" (392 : Nat) ({ cls := "SeanceStreetModel", name := "behind", desc := "(II)I" } : Jvm.MethodName)) ∈ lw_all := lw_g (lw_at lw_m8 189 rfl) rfl
theorem q1987 : (Jvm.Cond.privateMethod ({ cls := "SeanceStreetModel", name := "behind", desc := "(II)I" } : Jvm.MethodName)) ∈ lw_tbl := lw_at lw_m8 190 rfl
theorem q1988 : (Jvm.Cond.instanceMethod ({ cls := "SeanceStreetModel", name := "behind", desc := "(II)I" } : Jvm.MethodName)) ∈ lw_all := lw_g (lw_at lw_m8 191 rfl) rfl
theorem q1989 : (Jvm.Cond.code ({ cls := "SeanceStreetModel", name := "behind", desc := "(II)I" } : Jvm.MethodName) prog_15_method_92_code (7 : Nat) (Option.some Jvm.ClassFile.FieldType.int)) ∈ lw_all := lw_g (lw_at lw_m8 192 rfl) rfl
theorem q1990 : (Jvm.Cond.methodLink "SeanceStreetModel" (395 : Nat) ({ cls := "SeanceStreetModel", name := "apart", desc := "(II)I" } : Jvm.MethodName)) ∈ lw_all := lw_g (lw_at lw_m8 193 rfl) rfl
theorem q1991 : (Jvm.Cond.privateMethod ({ cls := "SeanceStreetModel", name := "apart", desc := "(II)I" } : Jvm.MethodName)) ∈ lw_tbl := lw_at lw_m8 194 rfl
theorem q1992 : (Jvm.Cond.instanceMethod ({ cls := "SeanceStreetModel", name := "apart", desc := "(II)I" } : Jvm.MethodName)) ∈ lw_all := lw_g (lw_at lw_m8 195 rfl) rfl
theorem q1993 : (Jvm.Cond.code ({ cls := "SeanceStreetModel", name := "apart", desc := "(II)I" } : Jvm.MethodName) prog_15_method_91_code (4 : Nat) (Option.some Jvm.ClassFile.FieldType.int)) ∈ lw_all := lw_g (lw_at lw_m8 196 rfl) rfl
theorem q1995 : (Jvm.Cond.instanceMethod ({ cls := "SeanceStreetModel", name := "bringFrom", desc := "(I)I" } : Jvm.MethodName)) ∈ lw_all := lw_g (lw_at lw_m8 198 rfl) rfl
theorem q1996 : (Jvm.Cond.selects "SeanceStreetModel" ({ cls := "SeanceStreetModel", name := "bringFrom", desc := "(I)I" } : Jvm.MethodName) ({ cls := "SeanceStreetModel", name := "bringFrom", desc := "(I)I" } : Jvm.MethodName)) ∈ lw_all := lw_g (lw_at lw_m8 199 rfl) rfl
theorem q1997 : (Jvm.Cond.code ({ cls := "SeanceStreetModel", name := "bringFrom", desc := "(I)I" } : Jvm.MethodName) prog_15_method_96_code (7 : Nat) (Option.some Jvm.ClassFile.FieldType.int)) ∈ lw_all := lw_g (lw_at lw_m8 200 rfl) rfl
theorem q1999 : (Jvm.Cond.instanceMethod ({ cls := "SeanceStreetModel", name := "steps", desc := "(II)I" } : Jvm.MethodName)) ∈ lw_all := lw_g (lw_at lw_m8 202 rfl) rfl
theorem q2000 : (Jvm.Cond.selects "SeanceStreetModel" ({ cls := "SeanceStreetModel", name := "steps", desc := "(II)I" } : Jvm.MethodName) ({ cls := "SeanceStreetModel", name := "steps", desc := "(II)I" } : Jvm.MethodName)) ∈ lw_all := lw_g (lw_at lw_m8 203 rfl) rfl
theorem q2001 : (Jvm.Cond.code ({ cls := "SeanceStreetModel", name := "steps", desc := "(II)I" } : Jvm.MethodName) prog_15_method_97_code (3 : Nat) (Option.some Jvm.ClassFile.FieldType.int)) ∈ lw_all := lw_g (lw_at lw_m8 204 rfl) rfl
theorem q2003 : (Jvm.Cond.instanceMethod ({ cls := "SeanceStreetModel", name := "ring", desc := "(II)I" } : Jvm.MethodName)) ∈ lw_all := lw_g (lw_at lw_m8 206 rfl) rfl
theorem q2004 : (Jvm.Cond.selects "SeanceStreetModel" ({ cls := "SeanceStreetModel", name := "ring", desc := "(II)I" } : Jvm.MethodName) ({ cls := "SeanceStreetModel", name := "ring", desc := "(II)I" } : Jvm.MethodName)) ∈ lw_all := lw_g (lw_at lw_m8 207 rfl) rfl
theorem q2005 : (Jvm.Cond.code ({ cls := "SeanceStreetModel", name := "ring", desc := "(II)I" } : Jvm.MethodName) prog_15_method_101_code (4 : Nat) (Option.some Jvm.ClassFile.FieldType.int)) ∈ lw_all := lw_g (lw_at lw_m8 208 rfl) rfl
theorem q2006 : (Jvm.Cond.methodLink "SeanceStreetModel" (407 : Nat) ({ cls := "SeanceStreetModel", name := "ringOf", desc := "(II)I" } : Jvm.MethodName)) ∈ lw_all := lw_g (lw_at lw_m8 209 rfl) rfl
theorem q2007 : (Jvm.Cond.privateMethod ({ cls := "SeanceStreetModel", name := "ringOf", desc := "(II)I" } : Jvm.MethodName)) ∈ lw_tbl := lw_at lw_m8 210 rfl
theorem q2008 : (Jvm.Cond.instanceMethod ({ cls := "SeanceStreetModel", name := "ringOf", desc := "(II)I" } : Jvm.MethodName)) ∈ lw_all := lw_g (lw_at lw_m8 211 rfl) rfl
theorem q2009 : (Jvm.Cond.code ({ cls := "SeanceStreetModel", name := "ringOf", desc := "(II)I" } : Jvm.MethodName) prog_15_method_100_code (5 : Nat) (Option.some Jvm.ClassFile.FieldType.int)) ∈ lw_all := lw_g (lw_at lw_m8 212 rfl) rfl
theorem q2010 : (Jvm.Cond.methodLink "SeanceStreetModel" (404 : Nat) ({ cls := "SeanceStreetModel", name := "nextOf", desc := "(II)I" } : Jvm.MethodName)) ∈ lw_all := lw_g (lw_at lw_m8 213 rfl) rfl
theorem q2011 : (Jvm.Cond.privateMethod ({ cls := "SeanceStreetModel", name := "nextOf", desc := "(II)I" } : Jvm.MethodName)) ∈ lw_tbl := lw_at lw_m8 214 rfl
theorem q2012 : (Jvm.Cond.instanceMethod ({ cls := "SeanceStreetModel", name := "nextOf", desc := "(II)I" } : Jvm.MethodName)) ∈ lw_all := lw_g (lw_at lw_m8 215 rfl) rfl
theorem q2013 : (Jvm.Cond.code ({ cls := "SeanceStreetModel", name := "nextOf", desc := "(II)I" } : Jvm.MethodName) prog_15_method_99_code (4 : Nat) (Option.some Jvm.ClassFile.FieldType.int)) ∈ lw_all := lw_g (lw_at lw_m8 216 rfl) rfl
theorem q2014 : (Jvm.Cond.methodLink "SeanceStreetModel" (401 : Nat) ({ cls := "SeanceStreetModel", name := "firstDead", desc := "(I)I" } : Jvm.MethodName)) ∈ lw_all := lw_g (lw_at lw_m8 217 rfl) rfl
theorem q2015 : (Jvm.Cond.privateMethod ({ cls := "SeanceStreetModel", name := "firstDead", desc := "(I)I" } : Jvm.MethodName)) ∈ lw_tbl := lw_at lw_m8 218 rfl
theorem q2016 : (Jvm.Cond.instanceMethod ({ cls := "SeanceStreetModel", name := "firstDead", desc := "(I)I" } : Jvm.MethodName)) ∈ lw_all := lw_g (lw_at lw_m8 219 rfl) rfl
theorem q2017 : (Jvm.Cond.code ({ cls := "SeanceStreetModel", name := "firstDead", desc := "(I)I" } : Jvm.MethodName) prog_15_method_98_code (3 : Nat) (Option.some Jvm.ClassFile.FieldType.int)) ∈ lw_all := lw_g (lw_at lw_m8 220 rfl) rfl
theorem q2019 : (Jvm.Cond.instanceMethod ({ cls := "SeanceStreetModel", name := "ringAt", desc := "(III)I" } : Jvm.MethodName)) ∈ lw_all := lw_g (lw_at lw_m8 222 rfl) rfl
theorem q2020 : (Jvm.Cond.selects "SeanceStreetModel" ({ cls := "SeanceStreetModel", name := "ringAt", desc := "(III)I" } : Jvm.MethodName) ({ cls := "SeanceStreetModel", name := "ringAt", desc := "(III)I" } : Jvm.MethodName)) ∈ lw_all := lw_g (lw_at lw_m8 223 rfl) rfl
theorem q2021 : (Jvm.Cond.code ({ cls := "SeanceStreetModel", name := "ringAt", desc := "(III)I" } : Jvm.MethodName) prog_15_method_102_code (7 : Nat) (Option.some Jvm.ClassFile.FieldType.int)) ∈ lw_all := lw_g (lw_at lw_m8 224 rfl) rfl
theorem q2023 : (Jvm.Cond.instanceMethod ({ cls := "SeanceStreetModel", name := "fits", desc := "()I" } : Jvm.MethodName)) ∈ lw_all := lw_g (lw_at lw_m8 226 rfl) rfl
theorem q2024 : (Jvm.Cond.selects "SeanceStreetModel" ({ cls := "SeanceStreetModel", name := "fits", desc := "()I" } : Jvm.MethodName) ({ cls := "SeanceStreetModel", name := "fits", desc := "()I" } : Jvm.MethodName)) ∈ lw_all := lw_g (lw_at lw_m8 227 rfl) rfl
theorem q2025 : (Jvm.Cond.code ({ cls := "SeanceStreetModel", name := "fits", desc := "()I" } : Jvm.MethodName) prog_15_method_105_code (1 : Nat) (Option.some Jvm.ClassFile.FieldType.int)) ∈ lw_all := lw_g (lw_at lw_m8 228 rfl) rfl
theorem q2026 : (Jvm.Cond.methodLink "SeanceStreetModel" (422 : Nat) ({ cls := "SeanceStreetModel", name := "fitting", desc := "(I)I" } : Jvm.MethodName)) ∈ lw_all := lw_g (lw_at lw_m8 229 rfl) rfl
theorem q2027 : (Jvm.Cond.privateMethod ({ cls := "SeanceStreetModel", name := "fitting", desc := "(I)I" } : Jvm.MethodName)) ∈ lw_tbl := lw_at lw_m8 230 rfl
theorem q2028 : (Jvm.Cond.instanceMethod ({ cls := "SeanceStreetModel", name := "fitting", desc := "(I)I" } : Jvm.MethodName)) ∈ lw_all := lw_g (lw_at lw_m8 231 rfl) rfl
theorem q2029 : (Jvm.Cond.code ({ cls := "SeanceStreetModel", name := "fitting", desc := "(I)I" } : Jvm.MethodName) prog_15_method_104_code (5 : Nat) (Option.some Jvm.ClassFile.FieldType.int)) ∈ lw_all := lw_g (lw_at lw_m8 232 rfl) rfl
theorem q2030 : (Jvm.Cond.methodLink "SeanceStreetModel" (419 : Nat) ({ cls := "SeanceStreetModel", name := "wrongHeard", desc := "(I)I" } : Jvm.MethodName)) ∈ lw_all := lw_g (lw_at lw_m8 233 rfl) rfl
theorem q2031 : (Jvm.Cond.privateMethod ({ cls := "SeanceStreetModel", name := "wrongHeard", desc := "(I)I" } : Jvm.MethodName)) ∈ lw_tbl := lw_at lw_m8 234 rfl
theorem q2032 : (Jvm.Cond.instanceMethod ({ cls := "SeanceStreetModel", name := "wrongHeard", desc := "(I)I" } : Jvm.MethodName)) ∈ lw_all := lw_g (lw_at lw_m8 235 rfl) rfl
theorem q2033 : (Jvm.Cond.code ({ cls := "SeanceStreetModel", name := "wrongHeard", desc := "(I)I" } : Jvm.MethodName) prog_15_method_103_code (3 : Nat) (Option.some Jvm.ClassFile.FieldType.int)) ∈ lw_all := lw_g (lw_at lw_m8 236 rfl) rfl
theorem q2035 : (Jvm.Cond.instanceMethod ({ cls := "SeanceStreetModel", name := "fitAt", desc := "(I)I" } : Jvm.MethodName)) ∈ lw_all := lw_g (lw_at lw_m8 238 rfl) rfl
theorem q2036 : (Jvm.Cond.selects "SeanceStreetModel" ({ cls := "SeanceStreetModel", name := "fitAt", desc := "(I)I" } : Jvm.MethodName) ({ cls := "SeanceStreetModel", name := "fitAt", desc := "(I)I" } : Jvm.MethodName)) ∈ lw_all := lw_g (lw_at lw_m8 239 rfl) rfl
theorem q2037 : (Jvm.Cond.code ({ cls := "SeanceStreetModel", name := "fitAt", desc := "(I)I" } : Jvm.MethodName) prog_15_method_106_code (3 : Nat) (Option.some Jvm.ClassFile.FieldType.int)) ∈ lw_all := lw_g (lw_at lw_m9 0 rfl) rfl
theorem q2039 : (Jvm.Cond.instanceMethod ({ cls := "SeanceStreetModel", name := "could", desc := "()I" } : Jvm.MethodName)) ∈ lw_all := lw_g (lw_at lw_m9 2 rfl) rfl
theorem q2040 : (Jvm.Cond.selects "SeanceStreetModel" ({ cls := "SeanceStreetModel", name := "could", desc := "()I" } : Jvm.MethodName) ({ cls := "SeanceStreetModel", name := "could", desc := "()I" } : Jvm.MethodName)) ∈ lw_all := lw_g (lw_at lw_m9 3 rfl) rfl
theorem q2041 : (Jvm.Cond.code ({ cls := "SeanceStreetModel", name := "could", desc := "()I" } : Jvm.MethodName) prog_15_method_107_code (1 : Nat) (Option.some Jvm.ClassFile.FieldType.int)) ∈ lw_all := lw_g (lw_at lw_m9 4 rfl) rfl
theorem q2043 : (Jvm.Cond.instanceMethod ({ cls := "SeanceStreetModel", name := "surely", desc := "()I" } : Jvm.MethodName)) ∈ lw_all := lw_g (lw_at lw_m9 6 rfl) rfl
theorem q2044 : (Jvm.Cond.selects "SeanceStreetModel" ({ cls := "SeanceStreetModel", name := "surely", desc := "()I" } : Jvm.MethodName) ({ cls := "SeanceStreetModel", name := "surely", desc := "()I" } : Jvm.MethodName)) ∈ lw_all := lw_g (lw_at lw_m9 7 rfl) rfl
theorem q2045 : (Jvm.Cond.code ({ cls := "SeanceStreetModel", name := "surely", desc := "()I" } : Jvm.MethodName) prog_15_method_108_code (1 : Nat) (Option.some Jvm.ClassFile.FieldType.int)) ∈ lw_all := lw_g (lw_at lw_m9 8 rfl) rfl
theorem q2047 : (Jvm.Cond.instanceMethod ({ cls := "SeanceStreetModel", name := "ask", desc := "()I" } : Jvm.MethodName)) ∈ lw_all := lw_g (lw_at lw_m9 10 rfl) rfl
theorem q2048 : (Jvm.Cond.selects "SeanceStreetModel" ({ cls := "SeanceStreetModel", name := "ask", desc := "()I" } : Jvm.MethodName) ({ cls := "SeanceStreetModel", name := "ask", desc := "()I" } : Jvm.MethodName)) ∈ lw_all := lw_g (lw_at lw_m9 11 rfl) rfl
theorem q2049 : (Jvm.Cond.code ({ cls := "SeanceStreetModel", name := "ask", desc := "()I" } : Jvm.MethodName) prog_15_method_110_code (1 : Nat) (Option.some Jvm.ClassFile.FieldType.int)) ∈ lw_all := lw_g (lw_at lw_m9 12 rfl) rfl
theorem q2050 : (Jvm.Cond.methodLink "SeanceStreetModel" (428 : Nat) ({ cls := "SeanceStreetModel", name := "asks", desc := "()I" } : Jvm.MethodName)) ∈ lw_all := lw_g (lw_at lw_m9 13 rfl) rfl
theorem q2051 : (Jvm.Cond.privateMethod ({ cls := "SeanceStreetModel", name := "asks", desc := "()I" } : Jvm.MethodName)) ∈ lw_tbl := lw_at lw_m9 14 rfl
theorem q2052 : (Jvm.Cond.instanceMethod ({ cls := "SeanceStreetModel", name := "asks", desc := "()I" } : Jvm.MethodName)) ∈ lw_all := lw_g (lw_at lw_m9 15 rfl) rfl
theorem q2053 : (Jvm.Cond.code ({ cls := "SeanceStreetModel", name := "asks", desc := "()I" } : Jvm.MethodName) prog_15_method_109_code (4 : Nat) (Option.some Jvm.ClassFile.FieldType.int)) ∈ lw_all := lw_g (lw_at lw_m9 16 rfl) rfl
theorem q2055 : (Jvm.Cond.instanceMethod ({ cls := "SeanceStreetModel", name := "askLeaves", desc := "()I" } : Jvm.MethodName)) ∈ lw_all := lw_g (lw_at lw_m9 18 rfl) rfl
theorem q2056 : (Jvm.Cond.selects "SeanceStreetModel" ({ cls := "SeanceStreetModel", name := "askLeaves", desc := "()I" } : Jvm.MethodName) ({ cls := "SeanceStreetModel", name := "askLeaves", desc := "()I" } : Jvm.MethodName)) ∈ lw_all := lw_g (lw_at lw_m9 19 rfl) rfl
theorem q2057 : (Jvm.Cond.code ({ cls := "SeanceStreetModel", name := "askLeaves", desc := "()I" } : Jvm.MethodName) prog_15_method_111_code (1 : Nat) (Option.some Jvm.ClassFile.FieldType.int)) ∈ lw_all := lw_g (lw_at lw_m9 20 rfl) rfl
theorem q2059 : (Jvm.Cond.instanceMethod ({ cls := "SeanceStreetModel", name := "judge", desc := "()I" } : Jvm.MethodName)) ∈ lw_all := lw_g (lw_at lw_m9 22 rfl) rfl
theorem q2060 : (Jvm.Cond.selects "SeanceStreetModel" ({ cls := "SeanceStreetModel", name := "judge", desc := "()I" } : Jvm.MethodName) ({ cls := "SeanceStreetModel", name := "judge", desc := "()I" } : Jvm.MethodName)) ∈ lw_all := lw_g (lw_at lw_m9 23 rfl) rfl
theorem q2061 : (Jvm.Cond.code ({ cls := "SeanceStreetModel", name := "judge", desc := "()I" } : Jvm.MethodName) prog_15_method_112_code (1 : Nat) (Option.some Jvm.ClassFile.FieldType.int)) ∈ lw_all := lw_g (lw_at lw_m9 24 rfl) rfl
theorem q2063 : (Jvm.Cond.instanceMethod ({ cls := "SeanceStreetModel", name := "chat", desc := "(IZZZ)I" } : Jvm.MethodName)) ∈ lw_all := lw_g (lw_at lw_m9 26 rfl) rfl
theorem q2064 : (Jvm.Cond.selects "SeanceStreetModel" ({ cls := "SeanceStreetModel", name := "chat", desc := "(IZZZ)I" } : Jvm.MethodName) ({ cls := "SeanceStreetModel", name := "chat", desc := "(IZZZ)I" } : Jvm.MethodName)) ∈ lw_all := lw_g (lw_at lw_m9 27 rfl) rfl
theorem q2065 : (Jvm.Cond.code ({ cls := "SeanceStreetModel", name := "chat", desc := "(IZZZ)I" } : Jvm.MethodName) prog_15_method_115_code (6 : Nat) (Option.some Jvm.ClassFile.FieldType.int)) ∈ lw_all := lw_g (lw_at lw_m9 28 rfl) rfl
theorem q2066 : (Jvm.Cond.methodLink "SeanceStreetModel" (431 : Nat) ({ cls := "SeanceStreetModel", name := "refusesSoot", desc := "(I)I" } : Jvm.MethodName)) ∈ lw_all := lw_g (lw_at lw_m9 29 rfl) rfl
theorem q2067 : (Jvm.Cond.privateMethod ({ cls := "SeanceStreetModel", name := "refusesSoot", desc := "(I)I" } : Jvm.MethodName)) ∈ lw_tbl := lw_at lw_m9 30 rfl
theorem q2068 : (Jvm.Cond.instanceMethod ({ cls := "SeanceStreetModel", name := "refusesSoot", desc := "(I)I" } : Jvm.MethodName)) ∈ lw_all := lw_g (lw_at lw_m9 31 rfl) rfl
theorem q2069 : (Jvm.Cond.code ({ cls := "SeanceStreetModel", name := "refusesSoot", desc := "(I)I" } : Jvm.MethodName) prog_15_method_114_code (2 : Nat) (Option.some Jvm.ClassFile.FieldType.int)) ∈ lw_all := lw_g (lw_at lw_m9 32 rfl) rfl
theorem q2070 : (Jvm.Cond.methodLink "SeanceStreetModel" (434 : Nat) ({ cls := "SeanceStreetModel", name := "lost", desc := "(I)I" } : Jvm.MethodName)) ∈ lw_all := lw_g (lw_at lw_m9 33 rfl) rfl
theorem q2071 : (Jvm.Cond.privateMethod ({ cls := "SeanceStreetModel", name := "lost", desc := "(I)I" } : Jvm.MethodName)) ∈ lw_tbl := lw_at lw_m9 34 rfl
theorem q2072 : (Jvm.Cond.instanceMethod ({ cls := "SeanceStreetModel", name := "lost", desc := "(I)I" } : Jvm.MethodName)) ∈ lw_all := lw_g (lw_at lw_m9 35 rfl) rfl
theorem q2073 : (Jvm.Cond.code ({ cls := "SeanceStreetModel", name := "lost", desc := "(I)I" } : Jvm.MethodName) prog_15_method_4_code (2 : Nat) (Option.some Jvm.ClassFile.FieldType.int)) ∈ lw_all := lw_g (lw_at lw_m9 36 rfl) rfl
theorem q2074 : (Jvm.Cond.methodLink "SeanceStreetModel" (437 : Nat) ({ cls := "SeanceStreetModel", name := "chatted", desc := "(IZZ)I" } : Jvm.MethodName)) ∈ lw_all := lw_g (lw_at lw_m9 37 rfl) rfl
theorem q2075 : (Jvm.Cond.static ({ cls := "SeanceStreetModel", name := "chatted", desc := "(IZZ)I" } : Jvm.MethodName)) ∈ lw_all := lw_g (lw_at lw_m9 38 rfl) rfl
theorem q2076 : (Jvm.Cond.code ({ cls := "SeanceStreetModel", name := "chatted", desc := "(IZZ)I" } : Jvm.MethodName) prog_15_method_113_code (3 : Nat) (Option.some Jvm.ClassFile.FieldType.int)) ∈ lw_all := lw_g (lw_at lw_m9 39 rfl) rfl
theorem q2078 : (Jvm.Cond.instanceMethod ({ cls := "SeanceStreetModel", name := "rests", desc := "(I)I" } : Jvm.MethodName)) ∈ lw_all := lw_g (lw_at lw_m9 41 rfl) rfl
theorem q2079 : (Jvm.Cond.selects "SeanceStreetModel" ({ cls := "SeanceStreetModel", name := "rests", desc := "(I)I" } : Jvm.MethodName) ({ cls := "SeanceStreetModel", name := "rests", desc := "(I)I" } : Jvm.MethodName)) ∈ lw_all := lw_g (lw_at lw_m9 42 rfl) rfl
theorem q2080 : (Jvm.Cond.code ({ cls := "SeanceStreetModel", name := "rests", desc := "(I)I" } : Jvm.MethodName) prog_15_method_117_code (5 : Nat) (Option.some Jvm.ClassFile.FieldType.int)) ∈ lw_all := lw_g (lw_at lw_m9 43 rfl) rfl
theorem q2081 : (Jvm.Cond.methodLink "SeanceStreetModel" (441 : Nat) ({ cls := "SeanceStreetModel", name := "isRest", desc := "(II)Z" } : Jvm.MethodName)) ∈ lw_all := lw_g (lw_at lw_m9 44 rfl) rfl
theorem q2082 : (Jvm.Cond.static ({ cls := "SeanceStreetModel", name := "isRest", desc := "(II)Z" } : Jvm.MethodName)) ∈ lw_all := lw_g (lw_at lw_m9 45 rfl) rfl
theorem q2083 : (Jvm.Cond.code ({ cls := "SeanceStreetModel", name := "isRest", desc := "(II)Z" } : Jvm.MethodName) prog_15_method_116_code (4 : Nat) (Option.some Jvm.ClassFile.FieldType.boolean)) ∈ lw_all := lw_g (lw_at lw_m9 46 rfl) rfl
theorem q2085 : (Jvm.Cond.instanceMethod ({ cls := "SeanceStreetModel", name := "rest", desc := "(I)I" } : Jvm.MethodName)) ∈ lw_all := lw_g (lw_at lw_m9 48 rfl) rfl
theorem q2086 : (Jvm.Cond.selects "SeanceStreetModel" ({ cls := "SeanceStreetModel", name := "rest", desc := "(I)I" } : Jvm.MethodName) ({ cls := "SeanceStreetModel", name := "rest", desc := "(I)I" } : Jvm.MethodName)) ∈ lw_all := lw_g (lw_at lw_m9 49 rfl) rfl
theorem q2087 : (Jvm.Cond.code ({ cls := "SeanceStreetModel", name := "rest", desc := "(I)I" } : Jvm.MethodName) prog_15_method_118_code (4 : Nat) (Option.some Jvm.ClassFile.FieldType.int)) ∈ lw_all := lw_g (lw_at lw_m9 50 rfl) rfl
theorem q2089 : (Jvm.Cond.instanceMethod ({ cls := "SeanceStreetModel", name := "odds", desc := "(IIZ)J" } : Jvm.MethodName)) ∈ lw_all := lw_g (lw_at lw_m9 52 rfl) rfl
theorem q2090 : (Jvm.Cond.selects "SeanceStreetModel" ({ cls := "SeanceStreetModel", name := "odds", desc := "(IIZ)J" } : Jvm.MethodName) ({ cls := "SeanceStreetModel", name := "odds", desc := "(IIZ)J" } : Jvm.MethodName)) ∈ lw_all := lw_g (lw_at lw_m9 53 rfl) rfl
theorem q2091 : (Jvm.Cond.code ({ cls := "SeanceStreetModel", name := "odds", desc := "(IIZ)J" } : Jvm.MethodName) prog_15_method_121_code (5 : Nat) (Option.some Jvm.ClassFile.FieldType.long)) ∈ lw_all := lw_g (lw_at lw_m9 54 rfl) rfl
theorem q2092 : (Jvm.Cond.methodLink "SeanceStreetModel" (447 : Nat) ({ cls := "SeanceStreetModel", name := "chance", desc := "(III)I" } : Jvm.MethodName)) ∈ lw_all := lw_g (lw_at lw_m9 55 rfl) rfl
theorem q2093 : (Jvm.Cond.privateMethod ({ cls := "SeanceStreetModel", name := "chance", desc := "(III)I" } : Jvm.MethodName)) ∈ lw_tbl := lw_at lw_m9 56 rfl
theorem q2094 : (Jvm.Cond.instanceMethod ({ cls := "SeanceStreetModel", name := "chance", desc := "(III)I" } : Jvm.MethodName)) ∈ lw_all := lw_g (lw_at lw_m9 57 rfl) rfl
theorem q2095 : (Jvm.Cond.code ({ cls := "SeanceStreetModel", name := "chance", desc := "(III)I" } : Jvm.MethodName) prog_15_method_120_code (4 : Nat) (Option.some Jvm.ClassFile.FieldType.int)) ∈ lw_all := lw_g (lw_at lw_m9 58 rfl) rfl
theorem q2096 : (Jvm.Cond.methodLink "SeanceStreetModel" (444 : Nat) ({ cls := "SeanceStreetModel", name := "hearerBy", desc := "(III)I" } : Jvm.MethodName)) ∈ lw_all := lw_g (lw_at lw_m9 59 rfl) rfl
theorem q2097 : (Jvm.Cond.privateMethod ({ cls := "SeanceStreetModel", name := "hearerBy", desc := "(III)I" } : Jvm.MethodName)) ∈ lw_tbl := lw_at lw_m9 60 rfl
theorem q2098 : (Jvm.Cond.instanceMethod ({ cls := "SeanceStreetModel", name := "hearerBy", desc := "(III)I" } : Jvm.MethodName)) ∈ lw_all := lw_g (lw_at lw_m9 61 rfl) rfl
theorem q2099 : (Jvm.Cond.code ({ cls := "SeanceStreetModel", name := "hearerBy", desc := "(III)I" } : Jvm.MethodName) prog_15_method_119_code (4 : Nat) (Option.some Jvm.ClassFile.FieldType.int)) ∈ lw_all := lw_g (lw_at lw_m9 62 rfl) rfl
theorem q2100 : (Jvm.Cond.constantLong "SeanceStreetModel" (450 : Nat) (100 : Int64)) ∈ lw_all := lw_g (lw_at lw_m9 63 rfl) rfl
theorem q2101 : (Jvm.Cond.methodLink "SeanceStreetModel" (452 : Nat) ({ cls := "SeanceStreetModel", name := "fraction", desc := "(JJZ)J" } : Jvm.MethodName)) ∈ lw_all := lw_g (lw_at lw_m9 64 rfl) rfl
theorem q2102 : (Jvm.Cond.privateMethod ({ cls := "SeanceStreetModel", name := "fraction", desc := "(JJZ)J" } : Jvm.MethodName)) ∈ lw_tbl := lw_at lw_m9 65 rfl
theorem q2103 : (Jvm.Cond.instanceMethod ({ cls := "SeanceStreetModel", name := "fraction", desc := "(JJZ)J" } : Jvm.MethodName)) ∈ lw_all := lw_g (lw_at lw_m9 66 rfl) rfl
theorem q2104 : (Jvm.Cond.code ({ cls := "SeanceStreetModel", name := "fraction", desc := "(JJZ)J" } : Jvm.MethodName) prog_15_method_12_code (6 : Nat) (Option.some Jvm.ClassFile.FieldType.long)) ∈ lw_all := lw_g (lw_at lw_m9 67 rfl) rfl
theorem q2105 : (Jvm.Cond.methodLink "SeanceStreetModel" (62 : Nat) ({ cls := "SeanceStreetModel", name := "common", desc := "(JJ)J" } : Jvm.MethodName)) ∈ lw_all := lw_g (lw_at lw_m9 68 rfl) rfl
theorem q2106 : (Jvm.Cond.static ({ cls := "SeanceStreetModel", name := "common", desc := "(JJ)J" } : Jvm.MethodName)) ∈ lw_all := lw_g (lw_at lw_m9 69 rfl) rfl
theorem q2107 : (Jvm.Cond.code ({ cls := "SeanceStreetModel", name := "common", desc := "(JJ)J" } : Jvm.MethodName) prog_15_method_11_code (10 : Nat) (Option.some Jvm.ClassFile.FieldType.long)) ∈ lw_all := lw_g (lw_at lw_m9 70 rfl) rfl
theorem q2109 : (Jvm.Cond.instanceMethod ({ cls := "SeanceStreetModel", name := "most", desc := "(IIZ)J" } : Jvm.MethodName)) ∈ lw_all := lw_g (lw_at lw_m9 72 rfl) rfl
theorem q2110 : (Jvm.Cond.selects "SeanceStreetModel" ({ cls := "SeanceStreetModel", name := "most", desc := "(IIZ)J" } : Jvm.MethodName) ({ cls := "SeanceStreetModel", name := "most", desc := "(IIZ)J" } : Jvm.MethodName)) ∈ lw_all := lw_g (lw_at lw_m9 73 rfl) rfl
theorem q2111 : (Jvm.Cond.code ({ cls := "SeanceStreetModel", name := "most", desc := "(IIZ)J" } : Jvm.MethodName) prog_15_method_122_code (9 : Nat) (Option.some Jvm.ClassFile.FieldType.long)) ∈ lw_all := lw_g (lw_at lw_m9 74 rfl) rfl
theorem q2113 : (Jvm.Cond.instanceMethod ({ cls := "SeanceStreetModel", name := "mean", desc := "(IIZ)J" } : Jvm.MethodName)) ∈ lw_all := lw_g (lw_at lw_m9 76 rfl) rfl
theorem q2114 : (Jvm.Cond.selects "SeanceStreetModel" ({ cls := "SeanceStreetModel", name := "mean", desc := "(IIZ)J" } : Jvm.MethodName) ({ cls := "SeanceStreetModel", name := "mean", desc := "(IIZ)J" } : Jvm.MethodName)) ∈ lw_all := lw_g (lw_at lw_m9 77 rfl) rfl
theorem q2115 : (Jvm.Cond.code ({ cls := "SeanceStreetModel", name := "mean", desc := "(IIZ)J" } : Jvm.MethodName) prog_15_method_123_code (8 : Nat) (Option.some Jvm.ClassFile.FieldType.long)) ∈ lw_all := lw_g (lw_at lw_m9 78 rfl) rfl
theorem q2117 : (Jvm.Cond.instanceMethod ({ cls := "SeanceStreetModel", name := "heardBy", desc := "(III)I" } : Jvm.MethodName)) ∈ lw_all := lw_g (lw_at lw_m9 80 rfl) rfl
theorem q2118 : (Jvm.Cond.selects "SeanceStreetModel" ({ cls := "SeanceStreetModel", name := "heardBy", desc := "(III)I" } : Jvm.MethodName) ({ cls := "SeanceStreetModel", name := "heardBy", desc := "(III)I" } : Jvm.MethodName)) ∈ lw_all := lw_g (lw_at lw_m9 81 rfl) rfl
theorem q2119 : (Jvm.Cond.code ({ cls := "SeanceStreetModel", name := "heardBy", desc := "(III)I" } : Jvm.MethodName) prog_15_method_125_code (6 : Nat) (Option.some Jvm.ClassFile.FieldType.int)) ∈ lw_all := lw_g (lw_at lw_m9 82 rfl) rfl
theorem q2120 : (Jvm.Cond.constant "SeanceStreetModel" (465 : Nat) (65536 : Int32)) ∈ lw_all := lw_g (lw_at lw_m9 83 rfl) rfl
theorem q2121 : (Jvm.Cond.methodLink "SeanceStreetModel" (466 : Nat) ({ cls := "SeanceStreetModel", name := "further", desc := "()I" } : Jvm.MethodName)) ∈ lw_all := lw_g (lw_at lw_m9 84 rfl) rfl
theorem q2122 : (Jvm.Cond.privateMethod ({ cls := "SeanceStreetModel", name := "further", desc := "()I" } : Jvm.MethodName)) ∈ lw_tbl := lw_at lw_m9 85 rfl
theorem q2123 : (Jvm.Cond.instanceMethod ({ cls := "SeanceStreetModel", name := "further", desc := "()I" } : Jvm.MethodName)) ∈ lw_all := lw_g (lw_at lw_m9 86 rfl) rfl
theorem q2124 : (Jvm.Cond.code ({ cls := "SeanceStreetModel", name := "further", desc := "()I" } : Jvm.MethodName) prog_15_method_124_code (1 : Nat) (Option.some Jvm.ClassFile.FieldType.int)) ∈ lw_all := lw_g (lw_at lw_m9 87 rfl) rfl
theorem q2125 : (Jvm.Cond.constantLong "SeanceStreetModel" (456 : Nat) (75 : Int64)) ∈ lw_all := lw_g (lw_at lw_m9 88 rfl) rfl
theorem q2126 : (Jvm.Cond.constantLong "SeanceStreetModel" (461 : Nat) (74 : Int64)) ∈ lw_all := lw_g (lw_at lw_m9 89 rfl) rfl
theorem q2127 : (Jvm.Cond.constantLong "SeanceStreetModel" (463 : Nat) (65537 : Int64)) ∈ lw_all := lw_g (lw_at lw_m9 90 rfl) rfl
theorem q2129 : (Jvm.Cond.instanceMethod ({ cls := "SeanceStreetModel", name := "rights", desc := "(II)I" } : Jvm.MethodName)) ∈ lw_all := lw_g (lw_at lw_m9 92 rfl) rfl
theorem q2130 : (Jvm.Cond.selects "SeanceStreetModel" ({ cls := "SeanceStreetModel", name := "rights", desc := "(II)I" } : Jvm.MethodName) ({ cls := "SeanceStreetModel", name := "rights", desc := "(II)I" } : Jvm.MethodName)) ∈ lw_all := lw_g (lw_at lw_m9 93 rfl) rfl
theorem q2131 : (Jvm.Cond.code ({ cls := "SeanceStreetModel", name := "rights", desc := "(II)I" } : Jvm.MethodName) prog_15_method_126_code (6 : Nat) (Option.some Jvm.ClassFile.FieldType.int)) ∈ lw_all := lw_g (lw_at lw_m9 94 rfl) rfl
theorem q2133 : (Jvm.Cond.instanceMethod ({ cls := "SeanceStreetModel", name := "night", desc := "()I" } : Jvm.MethodName)) ∈ lw_all := lw_g (lw_at lw_m9 96 rfl) rfl
theorem q2134 : (Jvm.Cond.selects "SeanceStreetModel" ({ cls := "SeanceStreetModel", name := "night", desc := "()I" } : Jvm.MethodName) ({ cls := "SeanceStreetModel", name := "night", desc := "()I" } : Jvm.MethodName)) ∈ lw_all := lw_g (lw_at lw_m9 97 rfl) rfl
theorem q2135 : (Jvm.Cond.code ({ cls := "SeanceStreetModel", name := "night", desc := "()I" } : Jvm.MethodName) prog_15_method_128_code (1 : Nat) (Option.some Jvm.ClassFile.FieldType.int)) ∈ lw_all := lw_g (lw_at lw_m9 98 rfl) rfl
theorem q2136 : (Jvm.Cond.methodLink "SeanceStreetModel" (469 : Nat) ({ cls := "SeanceStreetModel", name := "remembers", desc := "()V" } : Jvm.MethodName)) ∈ lw_all := lw_g (lw_at lw_m9 99 rfl) rfl
theorem q2137 : (Jvm.Cond.privateMethod ({ cls := "SeanceStreetModel", name := "remembers", desc := "()V" } : Jvm.MethodName)) ∈ lw_tbl := lw_at lw_m9 100 rfl
theorem q2138 : (Jvm.Cond.instanceMethod ({ cls := "SeanceStreetModel", name := "remembers", desc := "()V" } : Jvm.MethodName)) ∈ lw_all := lw_g (lw_at lw_m9 101 rfl) rfl
theorem q2139 : (Jvm.Cond.code ({ cls := "SeanceStreetModel", name := "remembers", desc := "()V" } : Jvm.MethodName) prog_15_method_127_code (2 : Nat) (Option.none : Option Jvm.ClassFile.FieldType)) ∈ lw_all := lw_g (lw_at lw_m9 102 rfl) rfl
theorem q2141 : (Jvm.Cond.instanceMethod ({ cls := "SeanceStreetModel", name := "move", desc := "(II)I" } : Jvm.MethodName)) ∈ lw_all := lw_g (lw_at lw_m9 104 rfl) rfl
theorem q2142 : (Jvm.Cond.selects "SeanceStreetModel" ({ cls := "SeanceStreetModel", name := "move", desc := "(II)I" } : Jvm.MethodName) ({ cls := "SeanceStreetModel", name := "move", desc := "(II)I" } : Jvm.MethodName)) ∈ lw_all := lw_g (lw_at lw_m9 105 rfl) rfl
theorem q2143 : (Jvm.Cond.code ({ cls := "SeanceStreetModel", name := "move", desc := "(II)I" } : Jvm.MethodName) prog_15_method_129_code (3 : Nat) (Option.some Jvm.ClassFile.FieldType.int)) ∈ lw_all := lw_g (lw_at lw_m9 106 rfl) rfl
theorem q2145 : (Jvm.Cond.instanceMethod ({ cls := "SeanceStreetModel", name := "hang", desc := "(II)Z" } : Jvm.MethodName)) ∈ lw_all := lw_g (lw_at lw_m9 108 rfl) rfl
theorem q2146 : (Jvm.Cond.selects "SeanceStreetModel" ({ cls := "SeanceStreetModel", name := "hang", desc := "(II)Z" } : Jvm.MethodName) ({ cls := "SeanceStreetModel", name := "hang", desc := "(II)Z" } : Jvm.MethodName)) ∈ lw_all := lw_g (lw_at lw_m9 109 rfl) rfl
theorem q2147 : (Jvm.Cond.code ({ cls := "SeanceStreetModel", name := "hang", desc := "(II)Z" } : Jvm.MethodName) prog_15_method_131_code (3 : Nat) (Option.some Jvm.ClassFile.FieldType.boolean)) ∈ lw_all := lw_g (lw_at lw_m9 110 rfl) rfl
theorem q2148 : (Jvm.Cond.methodLink "SeanceStreetModel" (478 : Nat) ({ cls := "SeanceStreetModel", name := "hangs", desc := "(II)Z" } : Jvm.MethodName)) ∈ lw_all := lw_g (lw_at lw_m9 111 rfl) rfl
theorem q2149 : (Jvm.Cond.privateMethod ({ cls := "SeanceStreetModel", name := "hangs", desc := "(II)Z" } : Jvm.MethodName)) ∈ lw_tbl := lw_at lw_m9 112 rfl
theorem q2150 : (Jvm.Cond.instanceMethod ({ cls := "SeanceStreetModel", name := "hangs", desc := "(II)Z" } : Jvm.MethodName)) ∈ lw_all := lw_g (lw_at lw_m9 113 rfl) rfl
theorem q2151 : (Jvm.Cond.code ({ cls := "SeanceStreetModel", name := "hangs", desc := "(II)Z" } : Jvm.MethodName) prog_15_method_130_code (3 : Nat) (Option.some Jvm.ClassFile.FieldType.boolean)) ∈ lw_all := lw_g (lw_at lw_m9 114 rfl) rfl
theorem q2152 : (Jvm.Cond.methodLink "SeanceStreetModel" (472 : Nat) ({ cls := "SeanceStreetModel", name := "denied", desc := "(I)Z" } : Jvm.MethodName)) ∈ lw_all := lw_g (lw_at lw_m9 115 rfl) rfl
theorem q2153 : (Jvm.Cond.privateMethod ({ cls := "SeanceStreetModel", name := "denied", desc := "(I)Z" } : Jvm.MethodName)) ∈ lw_tbl := lw_at lw_m9 116 rfl
theorem q2154 : (Jvm.Cond.instanceMethod ({ cls := "SeanceStreetModel", name := "denied", desc := "(I)Z" } : Jvm.MethodName)) ∈ lw_all := lw_g (lw_at lw_m9 117 rfl) rfl
theorem q2155 : (Jvm.Cond.code ({ cls := "SeanceStreetModel", name := "denied", desc := "(I)Z" } : Jvm.MethodName) prog_15_method_5_code (2 : Nat) (Option.some Jvm.ClassFile.FieldType.boolean)) ∈ lw_all := lw_g (lw_at lw_m9 118 rfl) rfl
theorem q2156 : (Jvm.Cond.methodLink "SeanceStreetModel" (475 : Nat) ({ cls := "SeanceStreetModel", name := "granted", desc := "()Z" } : Jvm.MethodName)) ∈ lw_all := lw_g (lw_at lw_m9 119 rfl) rfl
theorem q2157 : (Jvm.Cond.privateMethod ({ cls := "SeanceStreetModel", name := "granted", desc := "()Z" } : Jvm.MethodName)) ∈ lw_tbl := lw_at lw_m9 120 rfl
theorem q2158 : (Jvm.Cond.instanceMethod ({ cls := "SeanceStreetModel", name := "granted", desc := "()Z" } : Jvm.MethodName)) ∈ lw_all := lw_g (lw_at lw_m9 121 rfl) rfl
theorem q2159 : (Jvm.Cond.code ({ cls := "SeanceStreetModel", name := "granted", desc := "()Z" } : Jvm.MethodName) prog_15_method_7_code (1 : Nat) (Option.some Jvm.ClassFile.FieldType.boolean)) ∈ lw_all := lw_g (lw_at lw_m9 122 rfl) rfl
theorem q2161 : (Jvm.Cond.instanceMethod ({ cls := "SeanceStreetModel", name := "take", desc := "(I)Z" } : Jvm.MethodName)) ∈ lw_all := lw_g (lw_at lw_m9 124 rfl) rfl
theorem q2162 : (Jvm.Cond.selects "SeanceStreetModel" ({ cls := "SeanceStreetModel", name := "take", desc := "(I)Z" } : Jvm.MethodName) ({ cls := "SeanceStreetModel", name := "take", desc := "(I)Z" } : Jvm.MethodName)) ∈ lw_all := lw_g (lw_at lw_m9 125 rfl) rfl
theorem q2163 : (Jvm.Cond.code ({ cls := "SeanceStreetModel", name := "take", desc := "(I)Z" } : Jvm.MethodName) prog_15_method_132_code (2 : Nat) (Option.some Jvm.ClassFile.FieldType.boolean)) ∈ lw_all := lw_g (lw_at lw_m9 126 rfl) rfl
theorem q2165 : (Jvm.Cond.instanceMethod ({ cls := "SeanceStreetModel", name := "teach", desc := "(II)Z" } : Jvm.MethodName)) ∈ lw_all := lw_g (lw_at lw_m9 128 rfl) rfl
theorem q2166 : (Jvm.Cond.selects "SeanceStreetModel" ({ cls := "SeanceStreetModel", name := "teach", desc := "(II)Z" } : Jvm.MethodName) ({ cls := "SeanceStreetModel", name := "teach", desc := "(II)Z" } : Jvm.MethodName)) ∈ lw_all := lw_g (lw_at lw_m9 129 rfl) rfl
theorem q2167 : (Jvm.Cond.code ({ cls := "SeanceStreetModel", name := "teach", desc := "(II)Z" } : Jvm.MethodName) prog_15_method_133_code (3 : Nat) (Option.some Jvm.ClassFile.FieldType.boolean)) ∈ lw_all := lw_g (lw_at lw_m9 130 rfl) rfl
theorem q2169 : (Jvm.Cond.instanceMethod ({ cls := "SeanceStreetModel", name := "undo", desc := "()Z" } : Jvm.MethodName)) ∈ lw_all := lw_g (lw_at lw_m9 132 rfl) rfl
theorem q2170 : (Jvm.Cond.selects "SeanceStreetModel" ({ cls := "SeanceStreetModel", name := "undo", desc := "()Z" } : Jvm.MethodName) ({ cls := "SeanceStreetModel", name := "undo", desc := "()Z" } : Jvm.MethodName)) ∈ lw_all := lw_g (lw_at lw_m9 133 rfl) rfl
theorem q2171 : (Jvm.Cond.code ({ cls := "SeanceStreetModel", name := "undo", desc := "()Z" } : Jvm.MethodName) prog_15_method_134_code (2 : Nat) (Option.some Jvm.ClassFile.FieldType.boolean)) ∈ lw_all := lw_g (lw_at lw_m9 134 rfl) rfl
theorem q2173 : (Jvm.Cond.instanceMethod ({ cls := "SeanceStreetModel", name := "image", desc := "()I" } : Jvm.MethodName)) ∈ lw_all := lw_g (lw_at lw_m9 136 rfl) rfl
theorem q2174 : (Jvm.Cond.selects "SeanceStreetModel" ({ cls := "SeanceStreetModel", name := "image", desc := "()I" } : Jvm.MethodName) ({ cls := "SeanceStreetModel", name := "image", desc := "()I" } : Jvm.MethodName)) ∈ lw_all := lw_g (lw_at lw_m9 137 rfl) rfl
theorem q2175 : (Jvm.Cond.code ({ cls := "SeanceStreetModel", name := "image", desc := "()I" } : Jvm.MethodName) prog_15_method_135_code (2 : Nat) (Option.some Jvm.ClassFile.FieldType.int)) ∈ lw_all := lw_g (lw_at lw_m9 138 rfl) rfl
theorem q2177 : (Jvm.Cond.instanceMethod ({ cls := "SeanceStreetModel", name := "back", desc := "(I)Z" } : Jvm.MethodName)) ∈ lw_all := lw_g (lw_at lw_m9 140 rfl) rfl
theorem q2178 : (Jvm.Cond.selects "SeanceStreetModel" ({ cls := "SeanceStreetModel", name := "back", desc := "(I)Z" } : Jvm.MethodName) ({ cls := "SeanceStreetModel", name := "back", desc := "(I)Z" } : Jvm.MethodName)) ∈ lw_all := lw_g (lw_at lw_m9 141 rfl) rfl
theorem q2179 : (Jvm.Cond.code ({ cls := "SeanceStreetModel", name := "back", desc := "(I)Z" } : Jvm.MethodName) prog_15_method_136_code (3 : Nat) (Option.some Jvm.ClassFile.FieldType.boolean)) ∈ lw_all := lw_g (lw_at lw_m9 142 rfl) rfl
theorem q2181 : (Jvm.Cond.instanceMethod ({ cls := "SeanceStreetModel", name := "led", desc := "(I)I" } : Jvm.MethodName)) ∈ lw_all := lw_g (lw_at lw_m9 144 rfl) rfl
theorem q2182 : (Jvm.Cond.selects "SeanceStreetModel" ({ cls := "SeanceStreetModel", name := "led", desc := "(I)I" } : Jvm.MethodName) ({ cls := "SeanceStreetModel", name := "led", desc := "(I)I" } : Jvm.MethodName)) ∈ lw_all := lw_g (lw_at lw_m9 145 rfl) rfl
theorem q2183 : (Jvm.Cond.code ({ cls := "SeanceStreetModel", name := "led", desc := "(I)I" } : Jvm.MethodName) prog_15_method_137_code (4 : Nat) (Option.some Jvm.ClassFile.FieldType.int)) ∈ lw_all := lw_g (lw_at lw_m9 146 rfl) rfl
theorem q2185 : (Jvm.Cond.instanceMethod ({ cls := "SeanceStreetModel", name := "size", desc := "(I)I" } : Jvm.MethodName)) ∈ lw_all := lw_g (lw_at lw_m9 148 rfl) rfl
theorem q2186 : (Jvm.Cond.selects "SeanceStreetModel" ({ cls := "SeanceStreetModel", name := "size", desc := "(I)I" } : Jvm.MethodName) ({ cls := "SeanceStreetModel", name := "size", desc := "(I)I" } : Jvm.MethodName)) ∈ lw_all := lw_g (lw_at lw_m9 149 rfl) rfl
theorem q2187 : (Jvm.Cond.code ({ cls := "SeanceStreetModel", name := "size", desc := "(I)I" } : Jvm.MethodName) prog_15_method_139_code (2 : Nat) (Option.some Jvm.ClassFile.FieldType.int)) ∈ lw_all := lw_g (lw_at lw_m9 150 rfl) rfl
theorem q2188 : (Jvm.Cond.methodLink "SeanceStreetModel" (481 : Nat) ({ cls := "SeanceStreetModel", name := "mirrorsNow", desc := "()I" } : Jvm.MethodName)) ∈ lw_all := lw_g (lw_at lw_m9 151 rfl) rfl
theorem q2189 : (Jvm.Cond.privateMethod ({ cls := "SeanceStreetModel", name := "mirrorsNow", desc := "()I" } : Jvm.MethodName)) ∈ lw_tbl := lw_at lw_m9 152 rfl
theorem q2190 : (Jvm.Cond.instanceMethod ({ cls := "SeanceStreetModel", name := "mirrorsNow", desc := "()I" } : Jvm.MethodName)) ∈ lw_all := lw_g (lw_at lw_m9 153 rfl) rfl
theorem q2191 : (Jvm.Cond.code ({ cls := "SeanceStreetModel", name := "mirrorsNow", desc := "()I" } : Jvm.MethodName) prog_15_method_138_code (3 : Nat) (Option.some Jvm.ClassFile.FieldType.int)) ∈ lw_all := lw_g (lw_at lw_m9 154 rfl) rfl
theorem q2193 : (Jvm.Cond.instanceMethod ({ cls := "SeanceStreetModel", name := "trouble", desc := "()I" } : Jvm.MethodName)) ∈ lw_all := lw_g (lw_at lw_m9 156 rfl) rfl
theorem q2194 : (Jvm.Cond.selects "SeanceStreetModel" ({ cls := "SeanceStreetModel", name := "trouble", desc := "()I" } : Jvm.MethodName) ({ cls := "SeanceStreetModel", name := "trouble", desc := "()I" } : Jvm.MethodName)) ∈ lw_all := lw_g (lw_at lw_m9 157 rfl) rfl
theorem q2195 : (Jvm.Cond.code ({ cls := "SeanceStreetModel", name := "trouble", desc := "()I" } : Jvm.MethodName) prog_15_method_140_code (1 : Nat) (Option.some Jvm.ClassFile.FieldType.int)) ∈ lw_all := lw_g (lw_at lw_m9 158 rfl) rfl
theorem q2209 : (Jvm.Cond.castable "SeanceStreetModel" "java/lang/Object") ∈ lw_tbl := lw_at lw_m9 172 rfl
theorem in_X6 : ∀ w ∈ wsX60, w ∈ lw_all := lw_in wsX60 [1429, 1431, 1433, 1435, 1437, 1439, 1441, 1443, 1445, 1447, 1449, 1451, 1453, 1455, 1457, 1459, 1461, 1463, 1465, 1467, 1469, 1471, 1473, 1475, 1477, 1479, 1481, 1483, 1485, 1487, 1489, 1491, 1493] (by decide +kernel) (by decide +kernel)
