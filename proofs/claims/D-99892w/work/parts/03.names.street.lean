/-! SeanceStreet -/
set_option maxRecDepth 100000
def RX1 : String := "SeanceStreet"
def TX1 : u_T := fun k => match k with
  | 0 => ("SeanceStreet", "tape", "[B", true)
  | 1 => ("SeanceStreet", "taped", "I", false)
  | 2 => ("SeanceStreet", "scanner", "LSeanceStreet$Scanner;", true)
  | 3 => ("SeanceStreet", "town", "LSeanceStreet$Town;", false)
  | 4 => ("SeanceStreet", "trouble", "I", false)
  | 5 => ("SeanceStreet", "fault", "I", false)
  | 6 => ("SeanceStreet", "where", "I", false)
  | 7 => ("SeanceStreet", "imageMany", "I", false)
  | 8 => ("SeanceStreet", "undoMany", "I", false)
  | 9 => ("SeanceStreet", "street", "LSeanceStreet$Street;", true)
  | 10 => ("SeanceStreet", "was", "LSeanceStreet$Street;", true)
  | 11 => ("SeanceStreet", "trial", "LSeanceStreet$Street;", true)
  | 12 => ("SeanceStreet", "walk", "LSeanceStreet$Walk;", true)
  | 13 => ("SeanceStreet", "undone", "[LSeanceStreet$Street;", true)
  | 14 => ("SeanceStreet", "images", "[LSeanceStreet$Street;", true)
  | 15 => ("SeanceStreet", "sorted", "[I", true)
  | 16 => ("SeanceStreet", "seats", "[I", true)
  | 17 => ("SeanceStreet", "seated", "I", false)
  | 18 => ("SeanceStreet", "ringed", "[I", true)
  | 19 => ("SeanceStreet", "often", "[I", true)
  | 20 => ("SeanceStreet", "fitMany", "I", false)
  | 21 => ("SeanceStreet", "found", "I", false)
  | 22 => ("SeanceStreet", "some", "I", false)
  | 23 => ("SeanceStreet", "every", "I", false)
  | 24 => ("SeanceStreet", "firstRest", "I", false)
  | 25 => ("SeanceStreet", "allWeight", "J", false)
  | 26 => ("SeanceStreet", "mostWeight", "J", false)
  | 27 => ("SeanceStreet", "heardSum", "J", false)
  | 28 => ("SeanceStreet", "ears", "I", false)
  | _ => ("SeanceStreet", "rightMany", "I", false)
def tyX1 : Nat → FieldType := fun k => match k with
  | 0 => .array .byte
  | 1 => .int
  | 2 => .object "SeanceStreet$Scanner"
  | 3 => .object "SeanceStreet$Town"
  | 4 => .int
  | 5 => .int
  | 6 => .int
  | 7 => .int
  | 8 => .int
  | 9 => .object "SeanceStreet$Street"
  | 10 => .object "SeanceStreet$Street"
  | 11 => .object "SeanceStreet$Street"
  | 12 => .object "SeanceStreet$Walk"
  | 13 => .array (.object "SeanceStreet$Street")
  | 14 => .array (.object "SeanceStreet$Street")
  | 15 => .array .int
  | 16 => .array .int
  | 17 => .int
  | 18 => .array .int
  | 19 => .array .int
  | 20 => .int
  | 21 => .int
  | 22 => .int
  | 23 => .int
  | 24 => .int
  | 25 => .long
  | 26 => .long
  | 27 => .long
  | 28 => .int
  | _ => .int
abbrev wsX10 : List Cond := u_ws RX1 TX1 30
set_option maxRecDepth 100000 in
theorem nmX1 : ∀ a, a < 30 → ∀ b, b < 30 → a ≠ b → (TX1 a).2.1 ≠ (TX1 b).2.1 := by decide +kernel
set_option maxRecDepth 100000 in
theorem tyX1_ok : ∀ k, k < 30 → parseFieldDescriptor (TX1 k).2.2.1 = some (tyX1 k) := by decide +kernel
abbrev cX1_init : ByteArray := prog_1_method_7_code
def yX1_init : MethodName := ⟨RX1, "<init>", "()V"⟩
def dkwX1_init_7 : List UInt8 := [180, 0, 54, 27, 187, 0, 30, 89, 183, 0, 32, 83, 132, 1, 1, 167, 255, 235, 177]
abbrev dktX1_init_7 : List UInt8 := dkwX1_init_7 ++ []
def dkwX1_init_6 : List UInt8 := [187, 0, 30, 89, 183, 0, 32, 83, 132, 1, 1, 167, 255, 234, 3, 60, 27, 6, 162, 0, 22, 42]
abbrev dktX1_init_6 : List UInt8 := dkwX1_init_6 ++ dktX1_init_7
def dkwX1_init_5 : List UInt8 := [181, 0, 64, 42, 7, 188, 10, 181, 0, 67, 3, 60, 27, 16, 16, 162, 0, 22, 42, 180, 0, 50, 27]
abbrev dktX1_init_5 : List UInt8 := dkwX1_init_5 ++ dktX1_init_6
def dkwX1_init_4 : List UInt8 := [181, 0, 54, 42, 16, 6, 188, 10, 181, 0, 57, 42, 16, 6, 188, 10, 181, 0, 61, 42, 16, 7, 188, 10]
abbrev dktX1_init_4 : List UInt8 := dkwX1_init_4 ++ dktX1_init_5
def dkwX1_init_3 : List UInt8 := [187, 0, 43, 89, 183, 0, 45, 181, 0, 46, 42, 16, 16, 189, 0, 30, 181, 0, 50, 42, 6, 189, 0, 30]
abbrev dktX1_init_3 : List UInt8 := dkwX1_init_3 ++ dktX1_init_4
def dkwX1_init_2 : List UInt8 := [187, 0, 30, 89, 183, 0, 32, 181, 0, 37, 42, 187, 0, 30, 89, 183, 0, 32, 181, 0, 40, 42]
abbrev dktX1_init_2 : List UInt8 := dkwX1_init_2 ++ dktX1_init_3
def dkwX1_init_1 : List UInt8 := [183, 0, 19, 181, 0, 22, 42, 2, 181, 0, 26, 42, 187, 0, 30, 89, 183, 0, 32, 181, 0, 33, 42]
abbrev dktX1_init_1 : List UInt8 := dkwX1_init_1 ++ dktX1_init_2
def dkwX1_init_0 : List UInt8 := [42, 183, 0, 7, 42, 17, 3, 32, 188, 8, 181, 0, 13, 42, 187, 0, 17, 89, 42, 180, 0, 13]
abbrev dktX1_init_0 : List UInt8 := dkwX1_init_0 ++ dktX1_init_1
theorem dksX1_init_0 : cX1_init.data.toList.drop 0 = dktX1_init_0 := by decide +kernel
theorem dksX1_init_1 : cX1_init.data.toList.drop 22 = dktX1_init_1 := dk_seg dksX1_init_0 22 rfl rfl
theorem dksX1_init_2 : cX1_init.data.toList.drop 45 = dktX1_init_2 := dk_seg dksX1_init_1 23 rfl rfl
theorem dksX1_init_3 : cX1_init.data.toList.drop 67 = dktX1_init_3 := dk_seg dksX1_init_2 22 rfl rfl
theorem dksX1_init_4 : cX1_init.data.toList.drop 91 = dktX1_init_4 := dk_seg dksX1_init_3 24 rfl rfl
theorem dksX1_init_5 : cX1_init.data.toList.drop 115 = dktX1_init_5 := dk_seg dksX1_init_4 24 rfl rfl
theorem dksX1_init_6 : cX1_init.data.toList.drop 138 = dktX1_init_6 := dk_seg dksX1_init_5 23 rfl rfl
theorem dksX1_init_7 : cX1_init.data.toList.drop 160 = dktX1_init_7 := dk_seg dksX1_init_6 22 rfl rfl
theorem dX1_init_0 : decode cX1_init 0 = .ok (.aload_n 0, 1) := dk_42 (dk_at dksX1_init_0 0 rfl rfl)
theorem dX1_init_1 : decode cX1_init 1 = .ok (.invokespecial 7, 3) := dk_183 0 7 (dk_at dksX1_init_0 1 rfl rfl)
theorem dX1_init_4 : decode cX1_init 4 = .ok (.aload_n 0, 1) := dk_42 (dk_at dksX1_init_0 4 rfl rfl)
theorem dX1_init_5 : decode cX1_init 5 = .ok (.sipush 800, 3) := dk_17 3 32 (dk_at dksX1_init_0 5 rfl rfl)
theorem dX1_init_8 : decode cX1_init 8 = .ok (.newarray .byte, 2) := dk_188_8 (dk_at dksX1_init_0 8 rfl rfl)
theorem dX1_init_10 : decode cX1_init 10 = .ok (.putfield 13, 3) := dk_181 0 13 (dk_at dksX1_init_0 10 rfl rfl)
theorem dX1_init_13 : decode cX1_init 13 = .ok (.aload_n 0, 1) := dk_42 (dk_at dksX1_init_0 13 rfl rfl)
theorem dX1_init_14 : decode cX1_init 14 = .ok (.new 17, 3) := dk_187 0 17 (dk_at dksX1_init_0 14 rfl rfl)
theorem dX1_init_17 : decode cX1_init 17 = .ok (.dup, 1) := dk_89 (dk_at dksX1_init_0 17 rfl rfl)
theorem dX1_init_18 : decode cX1_init 18 = .ok (.aload_n 0, 1) := dk_42 (dk_at dksX1_init_0 18 rfl rfl)
theorem dX1_init_19 : decode cX1_init 19 = .ok (.getfield 13, 3) := dk_180 0 13 (dk_at dksX1_init_0 19 rfl rfl)
theorem dX1_init_22 : decode cX1_init 22 = .ok (.invokespecial 19, 3) := dk_183 0 19 (dk_at dksX1_init_1 0 rfl rfl)
theorem dX1_init_25 : decode cX1_init 25 = .ok (.putfield 22, 3) := dk_181 0 22 (dk_at dksX1_init_1 3 rfl rfl)
theorem dX1_init_28 : decode cX1_init 28 = .ok (.aload_n 0, 1) := dk_42 (dk_at dksX1_init_1 6 rfl rfl)
theorem dX1_init_29 : decode cX1_init 29 = .ok (.iconst (-1), 1) := dk_2 (dk_at dksX1_init_1 7 rfl rfl)
theorem dX1_init_30 : decode cX1_init 30 = .ok (.putfield 26, 3) := dk_181 0 26 (dk_at dksX1_init_1 8 rfl rfl)
theorem dX1_init_33 : decode cX1_init 33 = .ok (.aload_n 0, 1) := dk_42 (dk_at dksX1_init_1 11 rfl rfl)
theorem dX1_init_34 : decode cX1_init 34 = .ok (.new 30, 3) := dk_187 0 30 (dk_at dksX1_init_1 12 rfl rfl)
theorem dX1_init_37 : decode cX1_init 37 = .ok (.dup, 1) := dk_89 (dk_at dksX1_init_1 15 rfl rfl)
theorem dX1_init_38 : decode cX1_init 38 = .ok (.invokespecial 32, 3) := dk_183 0 32 (dk_at dksX1_init_1 16 rfl rfl)
theorem dX1_init_41 : decode cX1_init 41 = .ok (.putfield 33, 3) := dk_181 0 33 (dk_at dksX1_init_1 19 rfl rfl)
theorem dX1_init_44 : decode cX1_init 44 = .ok (.aload_n 0, 1) := dk_42 (dk_at dksX1_init_1 22 rfl rfl)
theorem dX1_init_45 : decode cX1_init 45 = .ok (.new 30, 3) := dk_187 0 30 (dk_at dksX1_init_2 0 rfl rfl)
theorem dX1_init_48 : decode cX1_init 48 = .ok (.dup, 1) := dk_89 (dk_at dksX1_init_2 3 rfl rfl)
theorem dX1_init_49 : decode cX1_init 49 = .ok (.invokespecial 32, 3) := dk_183 0 32 (dk_at dksX1_init_2 4 rfl rfl)
theorem dX1_init_52 : decode cX1_init 52 = .ok (.putfield 37, 3) := dk_181 0 37 (dk_at dksX1_init_2 7 rfl rfl)
theorem dX1_init_55 : decode cX1_init 55 = .ok (.aload_n 0, 1) := dk_42 (dk_at dksX1_init_2 10 rfl rfl)
theorem dX1_init_56 : decode cX1_init 56 = .ok (.new 30, 3) := dk_187 0 30 (dk_at dksX1_init_2 11 rfl rfl)
theorem dX1_init_59 : decode cX1_init 59 = .ok (.dup, 1) := dk_89 (dk_at dksX1_init_2 14 rfl rfl)
theorem dX1_init_60 : decode cX1_init 60 = .ok (.invokespecial 32, 3) := dk_183 0 32 (dk_at dksX1_init_2 15 rfl rfl)
theorem dX1_init_63 : decode cX1_init 63 = .ok (.putfield 40, 3) := dk_181 0 40 (dk_at dksX1_init_2 18 rfl rfl)
theorem dX1_init_66 : decode cX1_init 66 = .ok (.aload_n 0, 1) := dk_42 (dk_at dksX1_init_2 21 rfl rfl)
theorem dX1_init_67 : decode cX1_init 67 = .ok (.new 43, 3) := dk_187 0 43 (dk_at dksX1_init_3 0 rfl rfl)
theorem dX1_init_70 : decode cX1_init 70 = .ok (.dup, 1) := dk_89 (dk_at dksX1_init_3 3 rfl rfl)
theorem dX1_init_71 : decode cX1_init 71 = .ok (.invokespecial 45, 3) := dk_183 0 45 (dk_at dksX1_init_3 4 rfl rfl)
theorem dX1_init_74 : decode cX1_init 74 = .ok (.putfield 46, 3) := dk_181 0 46 (dk_at dksX1_init_3 7 rfl rfl)
theorem dX1_init_77 : decode cX1_init 77 = .ok (.aload_n 0, 1) := dk_42 (dk_at dksX1_init_3 10 rfl rfl)
theorem dX1_init_78 : decode cX1_init 78 = .ok (.bipush 16, 2) := dk_16 16 (dk_at dksX1_init_3 11 rfl rfl)
theorem dX1_init_80 : decode cX1_init 80 = .ok (.anewarray 30, 3) := dk_189 0 30 (dk_at dksX1_init_3 13 rfl rfl)
theorem dX1_init_83 : decode cX1_init 83 = .ok (.putfield 50, 3) := dk_181 0 50 (dk_at dksX1_init_3 16 rfl rfl)
theorem dX1_init_86 : decode cX1_init 86 = .ok (.aload_n 0, 1) := dk_42 (dk_at dksX1_init_3 19 rfl rfl)
theorem dX1_init_87 : decode cX1_init 87 = .ok (.iconst 3, 1) := dk_6 (dk_at dksX1_init_3 20 rfl rfl)
theorem dX1_init_88 : decode cX1_init 88 = .ok (.anewarray 30, 3) := dk_189 0 30 (dk_at dksX1_init_3 21 rfl rfl)
theorem dX1_init_91 : decode cX1_init 91 = .ok (.putfield 54, 3) := dk_181 0 54 (dk_at dksX1_init_4 0 rfl rfl)
theorem dX1_init_94 : decode cX1_init 94 = .ok (.aload_n 0, 1) := dk_42 (dk_at dksX1_init_4 3 rfl rfl)
theorem dX1_init_95 : decode cX1_init 95 = .ok (.bipush 6, 2) := dk_16 6 (dk_at dksX1_init_4 4 rfl rfl)
theorem dX1_init_97 : decode cX1_init 97 = .ok (.newarray .int, 2) := dk_188_10 (dk_at dksX1_init_4 6 rfl rfl)
theorem dX1_init_99 : decode cX1_init 99 = .ok (.putfield 57, 3) := dk_181 0 57 (dk_at dksX1_init_4 8 rfl rfl)
theorem dX1_init_102 : decode cX1_init 102 = .ok (.aload_n 0, 1) := dk_42 (dk_at dksX1_init_4 11 rfl rfl)
theorem dX1_init_103 : decode cX1_init 103 = .ok (.bipush 6, 2) := dk_16 6 (dk_at dksX1_init_4 12 rfl rfl)
theorem dX1_init_105 : decode cX1_init 105 = .ok (.newarray .int, 2) := dk_188_10 (dk_at dksX1_init_4 14 rfl rfl)
theorem dX1_init_107 : decode cX1_init 107 = .ok (.putfield 61, 3) := dk_181 0 61 (dk_at dksX1_init_4 16 rfl rfl)
theorem dX1_init_110 : decode cX1_init 110 = .ok (.aload_n 0, 1) := dk_42 (dk_at dksX1_init_4 19 rfl rfl)
theorem dX1_init_111 : decode cX1_init 111 = .ok (.bipush 7, 2) := dk_16 7 (dk_at dksX1_init_4 20 rfl rfl)
theorem dX1_init_113 : decode cX1_init 113 = .ok (.newarray .int, 2) := dk_188_10 (dk_at dksX1_init_4 22 rfl rfl)
theorem dX1_init_115 : decode cX1_init 115 = .ok (.putfield 64, 3) := dk_181 0 64 (dk_at dksX1_init_5 0 rfl rfl)
theorem dX1_init_118 : decode cX1_init 118 = .ok (.aload_n 0, 1) := dk_42 (dk_at dksX1_init_5 3 rfl rfl)
theorem dX1_init_119 : decode cX1_init 119 = .ok (.iconst 4, 1) := dk_7 (dk_at dksX1_init_5 4 rfl rfl)
theorem dX1_init_120 : decode cX1_init 120 = .ok (.newarray .int, 2) := dk_188_10 (dk_at dksX1_init_5 5 rfl rfl)
theorem dX1_init_122 : decode cX1_init 122 = .ok (.putfield 67, 3) := dk_181 0 67 (dk_at dksX1_init_5 7 rfl rfl)
theorem dX1_init_125 : decode cX1_init 125 = .ok (.iconst 0, 1) := dk_3 (dk_at dksX1_init_5 10 rfl rfl)
theorem dX1_init_126 : decode cX1_init 126 = .ok (.istore_n 1, 1) := dk_60 (dk_at dksX1_init_5 11 rfl rfl)
theorem dX1_init_127 : decode cX1_init 127 = .ok (.iload_n 1, 1) := dk_27 (dk_at dksX1_init_5 12 rfl rfl)
theorem dX1_init_128 : decode cX1_init 128 = .ok (.bipush 16, 2) := dk_16 16 (dk_at dksX1_init_5 13 rfl rfl)
theorem dX1_init_130 : decode cX1_init 130 = .ok (.if_icmp .ge 22, 3) := dk_162 0 22 (dk_at dksX1_init_5 15 rfl rfl)
theorem dX1_init_133 : decode cX1_init 133 = .ok (.aload_n 0, 1) := dk_42 (dk_at dksX1_init_5 18 rfl rfl)
theorem dX1_init_134 : decode cX1_init 134 = .ok (.getfield 50, 3) := dk_180 0 50 (dk_at dksX1_init_5 19 rfl rfl)
theorem dX1_init_137 : decode cX1_init 137 = .ok (.iload_n 1, 1) := dk_27 (dk_at dksX1_init_5 22 rfl rfl)
theorem dX1_init_138 : decode cX1_init 138 = .ok (.new 30, 3) := dk_187 0 30 (dk_at dksX1_init_6 0 rfl rfl)
theorem dX1_init_141 : decode cX1_init 141 = .ok (.dup, 1) := dk_89 (dk_at dksX1_init_6 3 rfl rfl)
theorem dX1_init_142 : decode cX1_init 142 = .ok (.invokespecial 32, 3) := dk_183 0 32 (dk_at dksX1_init_6 4 rfl rfl)
theorem dX1_init_145 : decode cX1_init 145 = .ok (.aastore, 1) := dk_83 (dk_at dksX1_init_6 7 rfl rfl)
theorem dX1_init_146 : decode cX1_init 146 = .ok (.iinc 1 1, 3) := dk_132 1 1 (dk_at dksX1_init_6 8 rfl rfl)
theorem dX1_init_149 : decode cX1_init 149 = .ok (.goto (-22), 3) := dk_167 255 234 (dk_at dksX1_init_6 11 rfl rfl)
theorem dX1_init_152 : decode cX1_init 152 = .ok (.iconst 0, 1) := dk_3 (dk_at dksX1_init_6 14 rfl rfl)
theorem dX1_init_153 : decode cX1_init 153 = .ok (.istore_n 1, 1) := dk_60 (dk_at dksX1_init_6 15 rfl rfl)
theorem dX1_init_154 : decode cX1_init 154 = .ok (.iload_n 1, 1) := dk_27 (dk_at dksX1_init_6 16 rfl rfl)
theorem dX1_init_155 : decode cX1_init 155 = .ok (.iconst 3, 1) := dk_6 (dk_at dksX1_init_6 17 rfl rfl)
theorem dX1_init_156 : decode cX1_init 156 = .ok (.if_icmp .ge 22, 3) := dk_162 0 22 (dk_at dksX1_init_6 18 rfl rfl)
theorem dX1_init_159 : decode cX1_init 159 = .ok (.aload_n 0, 1) := dk_42 (dk_at dksX1_init_6 21 rfl rfl)
theorem dX1_init_160 : decode cX1_init 160 = .ok (.getfield 54, 3) := dk_180 0 54 (dk_at dksX1_init_7 0 rfl rfl)
theorem dX1_init_163 : decode cX1_init 163 = .ok (.iload_n 1, 1) := dk_27 (dk_at dksX1_init_7 3 rfl rfl)
theorem dX1_init_164 : decode cX1_init 164 = .ok (.new 30, 3) := dk_187 0 30 (dk_at dksX1_init_7 4 rfl rfl)
theorem dX1_init_167 : decode cX1_init 167 = .ok (.dup, 1) := dk_89 (dk_at dksX1_init_7 7 rfl rfl)
theorem dX1_init_168 : decode cX1_init 168 = .ok (.invokespecial 32, 3) := dk_183 0 32 (dk_at dksX1_init_7 8 rfl rfl)
theorem dX1_init_171 : decode cX1_init 171 = .ok (.aastore, 1) := dk_83 (dk_at dksX1_init_7 11 rfl rfl)
theorem dX1_init_172 : decode cX1_init 172 = .ok (.iinc 1 1, 3) := dk_132 1 1 (dk_at dksX1_init_7 12 rfl rfl)
theorem dX1_init_175 : decode cX1_init 175 = .ok (.goto (-21), 3) := dk_167 255 235 (dk_at dksX1_init_7 15 rfl rfl)
theorem dX1_init_178 : decode cX1_init 178 = .ok (.return_, 1) := dk_177 (dk_at dksX1_init_7 18 rfl rfl)
abbrev cX1_feed : ByteArray := prog_1_method_11_code
def yX1_feed : MethodName := ⟨RX1, "feed", "(IIIII)I"⟩
def dkwX1_feed_2 : List UInt8 := [172]
abbrev dktX1_feed_2 : List UInt8 := dkwX1_feed_2 ++ []
def dkwX1_feed_1 : List UInt8 := [182, 0, 79, 42, 29, 182, 0, 79, 42, 21, 4, 182, 0, 79, 42, 21, 5, 182, 0, 79, 42, 180, 0, 76]
abbrev dktX1_feed_1 : List UInt8 := dkwX1_feed_1 ++ dktX1_feed_2
def dkwX1_feed_0 : List UInt8 := [42, 180, 0, 76, 16, 20, 96, 17, 3, 32, 164, 0, 5, 2, 172, 42, 27, 182, 0, 79, 42, 28]
abbrev dktX1_feed_0 : List UInt8 := dkwX1_feed_0 ++ dktX1_feed_1
theorem dksX1_feed_0 : cX1_feed.data.toList.drop 0 = dktX1_feed_0 := by decide +kernel
theorem dksX1_feed_1 : cX1_feed.data.toList.drop 22 = dktX1_feed_1 := dk_seg dksX1_feed_0 22 rfl rfl
theorem dksX1_feed_2 : cX1_feed.data.toList.drop 46 = dktX1_feed_2 := dk_seg dksX1_feed_1 24 rfl rfl
theorem dX1_feed_0 : decode cX1_feed 0 = .ok (.aload_n 0, 1) := dk_42 (dk_at dksX1_feed_0 0 rfl rfl)
theorem dX1_feed_1 : decode cX1_feed 1 = .ok (.getfield 76, 3) := dk_180 0 76 (dk_at dksX1_feed_0 1 rfl rfl)
theorem dX1_feed_4 : decode cX1_feed 4 = .ok (.bipush 20, 2) := dk_16 20 (dk_at dksX1_feed_0 4 rfl rfl)
theorem dX1_feed_6 : decode cX1_feed 6 = .ok (.iadd, 1) := dk_96 (dk_at dksX1_feed_0 6 rfl rfl)
theorem dX1_feed_7 : decode cX1_feed 7 = .ok (.sipush 800, 3) := dk_17 3 32 (dk_at dksX1_feed_0 7 rfl rfl)
theorem dX1_feed_10 : decode cX1_feed 10 = .ok (.if_icmp .le 5, 3) := dk_164 0 5 (dk_at dksX1_feed_0 10 rfl rfl)
theorem dX1_feed_13 : decode cX1_feed 13 = .ok (.iconst (-1), 1) := dk_2 (dk_at dksX1_feed_0 13 rfl rfl)
theorem dX1_feed_14 : decode cX1_feed 14 = .ok (.ireturn, 1) := dk_172 (dk_at dksX1_feed_0 14 rfl rfl)
theorem dX1_feed_15 : decode cX1_feed 15 = .ok (.aload_n 0, 1) := dk_42 (dk_at dksX1_feed_0 15 rfl rfl)
theorem dX1_feed_16 : decode cX1_feed 16 = .ok (.iload_n 1, 1) := dk_27 (dk_at dksX1_feed_0 16 rfl rfl)
theorem dX1_feed_17 : decode cX1_feed 17 = .ok (.invokevirtual 79, 3) := dk_182 0 79 (dk_at dksX1_feed_0 17 rfl rfl)
theorem dX1_feed_20 : decode cX1_feed 20 = .ok (.aload_n 0, 1) := dk_42 (dk_at dksX1_feed_0 20 rfl rfl)
theorem dX1_feed_21 : decode cX1_feed 21 = .ok (.iload_n 2, 1) := dk_28 (dk_at dksX1_feed_0 21 rfl rfl)
theorem dX1_feed_22 : decode cX1_feed 22 = .ok (.invokevirtual 79, 3) := dk_182 0 79 (dk_at dksX1_feed_1 0 rfl rfl)
theorem dX1_feed_25 : decode cX1_feed 25 = .ok (.aload_n 0, 1) := dk_42 (dk_at dksX1_feed_1 3 rfl rfl)
theorem dX1_feed_26 : decode cX1_feed 26 = .ok (.iload_n 3, 1) := dk_29 (dk_at dksX1_feed_1 4 rfl rfl)
theorem dX1_feed_27 : decode cX1_feed 27 = .ok (.invokevirtual 79, 3) := dk_182 0 79 (dk_at dksX1_feed_1 5 rfl rfl)
theorem dX1_feed_30 : decode cX1_feed 30 = .ok (.aload_n 0, 1) := dk_42 (dk_at dksX1_feed_1 8 rfl rfl)
theorem dX1_feed_31 : decode cX1_feed 31 = .ok (.iload 4, 2) := dk_21 4 (dk_at dksX1_feed_1 9 rfl rfl)
theorem dX1_feed_33 : decode cX1_feed 33 = .ok (.invokevirtual 79, 3) := dk_182 0 79 (dk_at dksX1_feed_1 11 rfl rfl)
theorem dX1_feed_36 : decode cX1_feed 36 = .ok (.aload_n 0, 1) := dk_42 (dk_at dksX1_feed_1 14 rfl rfl)
theorem dX1_feed_37 : decode cX1_feed 37 = .ok (.iload 5, 2) := dk_21 5 (dk_at dksX1_feed_1 15 rfl rfl)
theorem dX1_feed_39 : decode cX1_feed 39 = .ok (.invokevirtual 79, 3) := dk_182 0 79 (dk_at dksX1_feed_1 17 rfl rfl)
theorem dX1_feed_42 : decode cX1_feed 42 = .ok (.aload_n 0, 1) := dk_42 (dk_at dksX1_feed_1 20 rfl rfl)
theorem dX1_feed_43 : decode cX1_feed 43 = .ok (.getfield 76, 3) := dk_180 0 76 (dk_at dksX1_feed_1 21 rfl rfl)
theorem dX1_feed_46 : decode cX1_feed 46 = .ok (.ireturn, 1) := dk_172 (dk_at dksX1_feed_2 0 rfl rfl)
abbrev cX1_bytes : ByteArray := prog_1_method_12_code
def yX1_bytes : MethodName := ⟨RX1, "bytes", "(I)V"⟩
def dkwX1_bytes_1 : List UInt8 := [180, 0, 76, 4, 96, 181, 0, 76, 132, 2, 248, 167, 255, 226, 177]
abbrev dktX1_bytes_1 : List UInt8 := dkwX1_bytes_1 ++ []
def dkwX1_bytes_0 : List UInt8 := [16, 24, 61, 28, 155, 0, 32, 42, 180, 0, 13, 42, 180, 0, 76, 27, 28, 122, 145, 84, 42, 89]
abbrev dktX1_bytes_0 : List UInt8 := dkwX1_bytes_0 ++ dktX1_bytes_1
theorem dksX1_bytes_0 : cX1_bytes.data.toList.drop 0 = dktX1_bytes_0 := by decide +kernel
theorem dksX1_bytes_1 : cX1_bytes.data.toList.drop 22 = dktX1_bytes_1 := dk_seg dksX1_bytes_0 22 rfl rfl
theorem dX1_bytes_0 : decode cX1_bytes 0 = .ok (.bipush 24, 2) := dk_16 24 (dk_at dksX1_bytes_0 0 rfl rfl)
theorem dX1_bytes_2 : decode cX1_bytes 2 = .ok (.istore_n 2, 1) := dk_61 (dk_at dksX1_bytes_0 2 rfl rfl)
theorem dX1_bytes_3 : decode cX1_bytes 3 = .ok (.iload_n 2, 1) := dk_28 (dk_at dksX1_bytes_0 3 rfl rfl)
theorem dX1_bytes_4 : decode cX1_bytes 4 = .ok (.ifCond .lt 32, 3) := dk_155 0 32 (dk_at dksX1_bytes_0 4 rfl rfl)
theorem dX1_bytes_7 : decode cX1_bytes 7 = .ok (.aload_n 0, 1) := dk_42 (dk_at dksX1_bytes_0 7 rfl rfl)
theorem dX1_bytes_8 : decode cX1_bytes 8 = .ok (.getfield 13, 3) := dk_180 0 13 (dk_at dksX1_bytes_0 8 rfl rfl)
theorem dX1_bytes_11 : decode cX1_bytes 11 = .ok (.aload_n 0, 1) := dk_42 (dk_at dksX1_bytes_0 11 rfl rfl)
theorem dX1_bytes_12 : decode cX1_bytes 12 = .ok (.getfield 76, 3) := dk_180 0 76 (dk_at dksX1_bytes_0 12 rfl rfl)
theorem dX1_bytes_15 : decode cX1_bytes 15 = .ok (.iload_n 1, 1) := dk_27 (dk_at dksX1_bytes_0 15 rfl rfl)
theorem dX1_bytes_16 : decode cX1_bytes 16 = .ok (.iload_n 2, 1) := dk_28 (dk_at dksX1_bytes_0 16 rfl rfl)
theorem dX1_bytes_17 : decode cX1_bytes 17 = .ok (.ishr, 1) := dk_122 (dk_at dksX1_bytes_0 17 rfl rfl)
theorem dX1_bytes_18 : decode cX1_bytes 18 = .ok (.i2b, 1) := dk_145 (dk_at dksX1_bytes_0 18 rfl rfl)
theorem dX1_bytes_19 : decode cX1_bytes 19 = .ok (.bastore, 1) := dk_84 (dk_at dksX1_bytes_0 19 rfl rfl)
theorem dX1_bytes_20 : decode cX1_bytes 20 = .ok (.aload_n 0, 1) := dk_42 (dk_at dksX1_bytes_0 20 rfl rfl)
theorem dX1_bytes_21 : decode cX1_bytes 21 = .ok (.dup, 1) := dk_89 (dk_at dksX1_bytes_0 21 rfl rfl)
theorem dX1_bytes_22 : decode cX1_bytes 22 = .ok (.getfield 76, 3) := dk_180 0 76 (dk_at dksX1_bytes_1 0 rfl rfl)
theorem dX1_bytes_25 : decode cX1_bytes 25 = .ok (.iconst 1, 1) := dk_4 (dk_at dksX1_bytes_1 3 rfl rfl)
theorem dX1_bytes_26 : decode cX1_bytes 26 = .ok (.iadd, 1) := dk_96 (dk_at dksX1_bytes_1 4 rfl rfl)
theorem dX1_bytes_27 : decode cX1_bytes 27 = .ok (.putfield 76, 3) := dk_181 0 76 (dk_at dksX1_bytes_1 5 rfl rfl)
theorem dX1_bytes_30 : decode cX1_bytes 30 = .ok (.iinc 2 (-8), 3) := dk_132 2 248 (dk_at dksX1_bytes_1 8 rfl rfl)
theorem dX1_bytes_33 : decode cX1_bytes 33 = .ok (.goto (-30), 3) := dk_167 255 226 (dk_at dksX1_bytes_1 11 rfl rfl)
theorem dX1_bytes_36 : decode cX1_bytes 36 = .ok (.return_, 1) := dk_177 (dk_at dksX1_bytes_1 14 rfl rfl)
abbrev cX1_town : ByteArray := prog_1_method_13_code
def yX1_town : MethodName := ⟨RX1, "town", "(I)I"⟩
def dkwX1_town_4 : List UInt8 := [180, 0, 98, 180, 0, 118, 172]
abbrev dktX1_town_4 : List UInt8 := dkwX1_town_4 ++ []
def dkwX1_town_3 : List UInt8 := [180, 0, 33, 42, 180, 0, 98, 182, 0, 108, 87, 42, 3, 181, 0, 112, 42, 3, 181, 0, 115, 42]
abbrev dktX1_town_3 : List UInt8 := dkwX1_town_3 ++ dktX1_town_4
def dkwX1_town_2 : List UInt8 := [42, 44, 180, 0, 104, 181, 0, 91, 42, 44, 180, 0, 105, 181, 0, 26, 42, 7, 182, 0, 87, 172, 42]
abbrev dktX1_town_2 : List UInt8 := dkwX1_town_2 ++ dktX1_town_3
def dkwX1_town_1 : List UInt8 := [181, 0, 76, 42, 3, 181, 0, 91, 42, 42, 180, 0, 22, 27, 182, 0, 94, 181, 0, 98, 167, 0, 26, 77]
abbrev dktX1_town_1 : List UInt8 := dkwX1_town_1 ++ dktX1_town_2
def dkwX1_town_0 : List UInt8 := [42, 182, 0, 73, 27, 3, 42, 180, 0, 76, 184, 0, 83, 154, 0, 9, 42, 5, 182, 0, 87, 172, 42, 3]
abbrev dktX1_town_0 : List UInt8 := dkwX1_town_0 ++ dktX1_town_1
theorem dksX1_town_0 : cX1_town.data.toList.drop 0 = dktX1_town_0 := by decide +kernel
theorem dksX1_town_1 : cX1_town.data.toList.drop 24 = dktX1_town_1 := dk_seg dksX1_town_0 24 rfl rfl
theorem dksX1_town_2 : cX1_town.data.toList.drop 48 = dktX1_town_2 := dk_seg dksX1_town_1 24 rfl rfl
theorem dksX1_town_3 : cX1_town.data.toList.drop 71 = dktX1_town_3 := dk_seg dksX1_town_2 23 rfl rfl
theorem dksX1_town_4 : cX1_town.data.toList.drop 93 = dktX1_town_4 := dk_seg dksX1_town_3 22 rfl rfl
theorem dX1_town_0 : decode cX1_town 0 = .ok (.aload_n 0, 1) := dk_42 (dk_at dksX1_town_0 0 rfl rfl)
theorem dX1_town_1 : decode cX1_town 1 = .ok (.invokevirtual 73, 3) := dk_182 0 73 (dk_at dksX1_town_0 1 rfl rfl)
theorem dX1_town_4 : decode cX1_town 4 = .ok (.iload_n 1, 1) := dk_27 (dk_at dksX1_town_0 4 rfl rfl)
theorem dX1_town_5 : decode cX1_town 5 = .ok (.iconst 0, 1) := dk_3 (dk_at dksX1_town_0 5 rfl rfl)
theorem dX1_town_6 : decode cX1_town 6 = .ok (.aload_n 0, 1) := dk_42 (dk_at dksX1_town_0 6 rfl rfl)
theorem dX1_town_7 : decode cX1_town 7 = .ok (.getfield 76, 3) := dk_180 0 76 (dk_at dksX1_town_0 7 rfl rfl)
theorem dX1_town_10 : decode cX1_town 10 = .ok (.invokestatic 83, 3) := dk_184 0 83 (dk_at dksX1_town_0 10 rfl rfl)
theorem dX1_town_13 : decode cX1_town 13 = .ok (.ifCond .ne 9, 3) := dk_154 0 9 (dk_at dksX1_town_0 13 rfl rfl)
theorem dX1_town_16 : decode cX1_town 16 = .ok (.aload_n 0, 1) := dk_42 (dk_at dksX1_town_0 16 rfl rfl)
theorem dX1_town_17 : decode cX1_town 17 = .ok (.iconst 2, 1) := dk_5 (dk_at dksX1_town_0 17 rfl rfl)
theorem dX1_town_18 : decode cX1_town 18 = .ok (.invokevirtual 87, 3) := dk_182 0 87 (dk_at dksX1_town_0 18 rfl rfl)
theorem dX1_town_21 : decode cX1_town 21 = .ok (.ireturn, 1) := dk_172 (dk_at dksX1_town_0 21 rfl rfl)
theorem dX1_town_22 : decode cX1_town 22 = .ok (.aload_n 0, 1) := dk_42 (dk_at dksX1_town_0 22 rfl rfl)
theorem dX1_town_23 : decode cX1_town 23 = .ok (.iconst 0, 1) := dk_3 (dk_at dksX1_town_0 23 rfl rfl)
theorem dX1_town_24 : decode cX1_town 24 = .ok (.putfield 76, 3) := dk_181 0 76 (dk_at dksX1_town_1 0 rfl rfl)
theorem dX1_town_27 : decode cX1_town 27 = .ok (.aload_n 0, 1) := dk_42 (dk_at dksX1_town_1 3 rfl rfl)
theorem dX1_town_28 : decode cX1_town 28 = .ok (.iconst 0, 1) := dk_3 (dk_at dksX1_town_1 4 rfl rfl)
theorem dX1_town_29 : decode cX1_town 29 = .ok (.putfield 91, 3) := dk_181 0 91 (dk_at dksX1_town_1 5 rfl rfl)
theorem dX1_town_32 : decode cX1_town 32 = .ok (.aload_n 0, 1) := dk_42 (dk_at dksX1_town_1 8 rfl rfl)
theorem dX1_town_33 : decode cX1_town 33 = .ok (.aload_n 0, 1) := dk_42 (dk_at dksX1_town_1 9 rfl rfl)
theorem dX1_town_34 : decode cX1_town 34 = .ok (.getfield 22, 3) := dk_180 0 22 (dk_at dksX1_town_1 10 rfl rfl)
theorem dX1_town_37 : decode cX1_town 37 = .ok (.iload_n 1, 1) := dk_27 (dk_at dksX1_town_1 13 rfl rfl)
theorem dX1_town_38 : decode cX1_town 38 = .ok (.invokevirtual 94, 3) := dk_182 0 94 (dk_at dksX1_town_1 14 rfl rfl)
theorem dX1_town_41 : decode cX1_town 41 = .ok (.putfield 98, 3) := dk_181 0 98 (dk_at dksX1_town_1 17 rfl rfl)
theorem dX1_town_44 : decode cX1_town 44 = .ok (.goto 26, 3) := dk_167 0 26 (dk_at dksX1_town_1 20 rfl rfl)
theorem dX1_town_47 : decode cX1_town 47 = .ok (.astore_n 2, 1) := dk_77 (dk_at dksX1_town_1 23 rfl rfl)
theorem dX1_town_48 : decode cX1_town 48 = .ok (.aload_n 0, 1) := dk_42 (dk_at dksX1_town_2 0 rfl rfl)
theorem dX1_town_49 : decode cX1_town 49 = .ok (.aload_n 2, 1) := dk_44 (dk_at dksX1_town_2 1 rfl rfl)
theorem dX1_town_50 : decode cX1_town 50 = .ok (.getfield 104, 3) := dk_180 0 104 (dk_at dksX1_town_2 2 rfl rfl)
theorem dX1_town_53 : decode cX1_town 53 = .ok (.putfield 91, 3) := dk_181 0 91 (dk_at dksX1_town_2 5 rfl rfl)
theorem dX1_town_56 : decode cX1_town 56 = .ok (.aload_n 0, 1) := dk_42 (dk_at dksX1_town_2 8 rfl rfl)
theorem dX1_town_57 : decode cX1_town 57 = .ok (.aload_n 2, 1) := dk_44 (dk_at dksX1_town_2 9 rfl rfl)
theorem dX1_town_58 : decode cX1_town 58 = .ok (.getfield 105, 3) := dk_180 0 105 (dk_at dksX1_town_2 10 rfl rfl)
theorem dX1_town_61 : decode cX1_town 61 = .ok (.putfield 26, 3) := dk_181 0 26 (dk_at dksX1_town_2 13 rfl rfl)
theorem dX1_town_64 : decode cX1_town 64 = .ok (.aload_n 0, 1) := dk_42 (dk_at dksX1_town_2 16 rfl rfl)
theorem dX1_town_65 : decode cX1_town 65 = .ok (.iconst 4, 1) := dk_7 (dk_at dksX1_town_2 17 rfl rfl)
theorem dX1_town_66 : decode cX1_town 66 = .ok (.invokevirtual 87, 3) := dk_182 0 87 (dk_at dksX1_town_2 18 rfl rfl)
theorem dX1_town_69 : decode cX1_town 69 = .ok (.ireturn, 1) := dk_172 (dk_at dksX1_town_2 21 rfl rfl)
theorem dX1_town_70 : decode cX1_town 70 = .ok (.aload_n 0, 1) := dk_42 (dk_at dksX1_town_2 22 rfl rfl)
theorem dX1_town_71 : decode cX1_town 71 = .ok (.getfield 33, 3) := dk_180 0 33 (dk_at dksX1_town_3 0 rfl rfl)
theorem dX1_town_74 : decode cX1_town 74 = .ok (.aload_n 0, 1) := dk_42 (dk_at dksX1_town_3 3 rfl rfl)
theorem dX1_town_75 : decode cX1_town 75 = .ok (.getfield 98, 3) := dk_180 0 98 (dk_at dksX1_town_3 4 rfl rfl)
theorem dX1_town_78 : decode cX1_town 78 = .ok (.invokevirtual 108, 3) := dk_182 0 108 (dk_at dksX1_town_3 7 rfl rfl)
theorem dX1_town_81 : decode cX1_town 81 = .ok (.pop, 1) := dk_87 (dk_at dksX1_town_3 10 rfl rfl)
theorem dX1_town_82 : decode cX1_town 82 = .ok (.aload_n 0, 1) := dk_42 (dk_at dksX1_town_3 11 rfl rfl)
theorem dX1_town_83 : decode cX1_town 83 = .ok (.iconst 0, 1) := dk_3 (dk_at dksX1_town_3 12 rfl rfl)
theorem dX1_town_84 : decode cX1_town 84 = .ok (.putfield 112, 3) := dk_181 0 112 (dk_at dksX1_town_3 13 rfl rfl)
theorem dX1_town_87 : decode cX1_town 87 = .ok (.aload_n 0, 1) := dk_42 (dk_at dksX1_town_3 16 rfl rfl)
theorem dX1_town_88 : decode cX1_town 88 = .ok (.iconst 0, 1) := dk_3 (dk_at dksX1_town_3 17 rfl rfl)
theorem dX1_town_89 : decode cX1_town 89 = .ok (.putfield 115, 3) := dk_181 0 115 (dk_at dksX1_town_3 18 rfl rfl)
theorem dX1_town_92 : decode cX1_town 92 = .ok (.aload_n 0, 1) := dk_42 (dk_at dksX1_town_3 21 rfl rfl)
theorem dX1_town_93 : decode cX1_town 93 = .ok (.getfield 98, 3) := dk_180 0 98 (dk_at dksX1_town_4 0 rfl rfl)
theorem dX1_town_96 : decode cX1_town 96 = .ok (.getfield 118, 3) := dk_180 0 118 (dk_at dksX1_town_4 3 rfl rfl)
theorem dX1_town_99 : decode cX1_town 99 = .ok (.ireturn, 1) := dk_172 (dk_at dksX1_town_4 6 rfl rfl)
abbrev cX1_anew : ByteArray := prog_1_method_8_code
def yX1_anew : MethodName := ⟨RX1, "anew", "()V"⟩
def dkwX1_anew_0 : List UInt8 := [42, 3, 181, 0, 70, 42, 2, 181, 0, 26, 177]
abbrev dktX1_anew_0 : List UInt8 := dkwX1_anew_0 ++ []
theorem dksX1_anew_0 : cX1_anew.data.toList.drop 0 = dktX1_anew_0 := by decide +kernel
theorem dX1_anew_0 : decode cX1_anew 0 = .ok (.aload_n 0, 1) := dk_42 (dk_at dksX1_anew_0 0 rfl rfl)
theorem dX1_anew_1 : decode cX1_anew 1 = .ok (.iconst 0, 1) := dk_3 (dk_at dksX1_anew_0 1 rfl rfl)
theorem dX1_anew_2 : decode cX1_anew 2 = .ok (.putfield 70, 3) := dk_181 0 70 (dk_at dksX1_anew_0 2 rfl rfl)
theorem dX1_anew_5 : decode cX1_anew 5 = .ok (.aload_n 0, 1) := dk_42 (dk_at dksX1_anew_0 5 rfl rfl)
theorem dX1_anew_6 : decode cX1_anew 6 = .ok (.iconst (-1), 1) := dk_2 (dk_at dksX1_anew_0 6 rfl rfl)
theorem dX1_anew_7 : decode cX1_anew 7 = .ok (.putfield 26, 3) := dk_181 0 26 (dk_at dksX1_anew_0 7 rfl rfl)
theorem dX1_anew_10 : decode cX1_anew 10 = .ok (.return_, 1) := dk_177 (dk_at dksX1_anew_0 10 rfl rfl)
abbrev cX1_in : ByteArray := prog_1_method_1_code
def yX1_in : MethodName := ⟨RX1, "in", "(III)Z"⟩
def dkwX1_in_0 : List UInt8 := [26, 27, 161, 0, 12, 26, 28, 163, 0, 7, 4, 167, 0, 4, 3, 172]
abbrev dktX1_in_0 : List UInt8 := dkwX1_in_0 ++ []
theorem dksX1_in_0 : cX1_in.data.toList.drop 0 = dktX1_in_0 := by decide +kernel
theorem dX1_in_0 : decode cX1_in 0 = .ok (.iload_n 0, 1) := dk_26 (dk_at dksX1_in_0 0 rfl rfl)
theorem dX1_in_1 : decode cX1_in 1 = .ok (.iload_n 1, 1) := dk_27 (dk_at dksX1_in_0 1 rfl rfl)
theorem dX1_in_2 : decode cX1_in 2 = .ok (.if_icmp .lt 12, 3) := dk_161 0 12 (dk_at dksX1_in_0 2 rfl rfl)
theorem dX1_in_5 : decode cX1_in 5 = .ok (.iload_n 0, 1) := dk_26 (dk_at dksX1_in_0 5 rfl rfl)
theorem dX1_in_6 : decode cX1_in 6 = .ok (.iload_n 2, 1) := dk_28 (dk_at dksX1_in_0 6 rfl rfl)
theorem dX1_in_7 : decode cX1_in 7 = .ok (.if_icmp .gt 7, 3) := dk_163 0 7 (dk_at dksX1_in_0 7 rfl rfl)
theorem dX1_in_10 : decode cX1_in 10 = .ok (.iconst 1, 1) := dk_4 (dk_at dksX1_in_0 10 rfl rfl)
theorem dX1_in_11 : decode cX1_in 11 = .ok (.goto 4, 3) := dk_167 0 4 (dk_at dksX1_in_0 11 rfl rfl)
theorem dX1_in_14 : decode cX1_in 14 = .ok (.iconst 0, 1) := dk_3 (dk_at dksX1_in_0 14 rfl rfl)
theorem dX1_in_15 : decode cX1_in 15 = .ok (.ireturn, 1) := dk_172 (dk_at dksX1_in_0 15 rfl rfl)
abbrev cX1_no : ByteArray := prog_1_method_9_code
def yX1_no : MethodName := ⟨RX1, "no", "(I)I"⟩
def dkwX1_no_0 : List UInt8 := [42, 27, 181, 0, 70, 2, 172]
abbrev dktX1_no_0 : List UInt8 := dkwX1_no_0 ++ []
theorem dksX1_no_0 : cX1_no.data.toList.drop 0 = dktX1_no_0 := by decide +kernel
theorem dX1_no_0 : decode cX1_no 0 = .ok (.aload_n 0, 1) := dk_42 (dk_at dksX1_no_0 0 rfl rfl)
theorem dX1_no_1 : decode cX1_no 1 = .ok (.iload_n 1, 1) := dk_27 (dk_at dksX1_no_0 1 rfl rfl)
theorem dX1_no_2 : decode cX1_no 2 = .ok (.putfield 70, 3) := dk_181 0 70 (dk_at dksX1_no_0 2 rfl rfl)
theorem dX1_no_5 : decode cX1_no 5 = .ok (.iconst (-1), 1) := dk_2 (dk_at dksX1_no_0 5 rfl rfl)
theorem dX1_no_6 : decode cX1_no 6 = .ok (.ireturn, 1) := dk_172 (dk_at dksX1_no_0 6 rfl rfl)
abbrev cX1_fault : ByteArray := prog_1_method_14_code
def yX1_fault : MethodName := ⟨RX1, "fault", "()I"⟩
theorem dX1_fault_0 : decode cX1_fault 0 = .ok (.aload_n 0, 1) := by decide +kernel
theorem dX1_fault_1 : decode cX1_fault 1 = .ok (.getfield 91, 3) := by decide +kernel
theorem dX1_fault_4 : decode cX1_fault 4 = .ok (.ireturn, 1) := by decide +kernel
abbrev cX1_where : ByteArray := prog_1_method_15_code
def yX1_where : MethodName := ⟨RX1, "where", "()I"⟩
def dkwX1_where_0 : List UInt8 := [42, 180, 0, 70, 7, 160, 0, 10, 42, 180, 0, 26, 167, 0, 4, 2, 172]
abbrev dktX1_where_0 : List UInt8 := dkwX1_where_0 ++ []
theorem dksX1_where_0 : cX1_where.data.toList.drop 0 = dktX1_where_0 := by decide +kernel
theorem dX1_where_0 : decode cX1_where 0 = .ok (.aload_n 0, 1) := dk_42 (dk_at dksX1_where_0 0 rfl rfl)
theorem dX1_where_1 : decode cX1_where 1 = .ok (.getfield 70, 3) := dk_180 0 70 (dk_at dksX1_where_0 1 rfl rfl)
theorem dX1_where_4 : decode cX1_where 4 = .ok (.iconst 4, 1) := dk_7 (dk_at dksX1_where_0 4 rfl rfl)
theorem dX1_where_5 : decode cX1_where 5 = .ok (.if_icmp .ne 10, 3) := dk_160 0 10 (dk_at dksX1_where_0 5 rfl rfl)
theorem dX1_where_8 : decode cX1_where 8 = .ok (.aload_n 0, 1) := dk_42 (dk_at dksX1_where_0 8 rfl rfl)
theorem dX1_where_9 : decode cX1_where 9 = .ok (.getfield 26, 3) := dk_180 0 26 (dk_at dksX1_where_0 9 rfl rfl)
theorem dX1_where_12 : decode cX1_where 12 = .ok (.goto 4, 3) := dk_167 0 4 (dk_at dksX1_where_0 12 rfl rfl)
theorem dX1_where_15 : decode cX1_where 15 = .ok (.iconst (-1), 1) := dk_2 (dk_at dksX1_where_0 15 rfl rfl)
theorem dX1_where_16 : decode cX1_where 16 = .ok (.ireturn, 1) := dk_172 (dk_at dksX1_where_0 16 rfl rfl)
abbrev cX1_person : ByteArray := prog_1_method_21_code
def yX1_person : MethodName := ⟨RX1, "person", "(II)I"⟩
def dkwX1_person_3 : List UInt8 := [42, 180, 0, 33, 180, 0, 143, 182, 0, 146, 172, 42, 4, 182, 0, 87, 172]
abbrev dktX1_person_3 : List UInt8 := dkwX1_person_3 ++ []
def dkwX1_person_2 : List UInt8 := [42, 180, 0, 33, 180, 0, 137, 27, 46, 172, 42, 180, 0, 33, 27, 182, 0, 140, 172, 42, 180, 0, 33, 27]
abbrev dktX1_person_2 : List UInt8 := dkwX1_person_2 ++ dktX1_person_3
def dkwX1_person_1 : List UInt8 := [170, 0, 0, 0, 60, 0, 0, 0, 0, 0, 0, 0, 2, 0, 0, 0, 25, 0, 0, 0, 35, 0, 0, 0, 44]
abbrev dktX1_person_1 : List UInt8 := dkwX1_person_1 ++ dktX1_person_2
def dkwX1_person_0 : List UInt8 := [42, 182, 0, 73, 42, 27, 182, 0, 133, 154, 0, 9, 42, 4, 182, 0, 87, 172, 28]
abbrev dktX1_person_0 : List UInt8 := dkwX1_person_0 ++ dktX1_person_1
theorem dksX1_person_0 : cX1_person.data.toList.drop 0 = dktX1_person_0 := by decide +kernel
theorem dksX1_person_1 : cX1_person.data.toList.drop 19 = dktX1_person_1 := dk_seg dksX1_person_0 19 rfl rfl
theorem dksX1_person_2 : cX1_person.data.toList.drop 44 = dktX1_person_2 := dk_seg dksX1_person_1 25 rfl rfl
theorem dksX1_person_3 : cX1_person.data.toList.drop 68 = dktX1_person_3 := dk_seg dksX1_person_2 24 rfl rfl
theorem dX1_person_0 : decode cX1_person 0 = .ok (.aload_n 0, 1) := dk_42 (dk_at dksX1_person_0 0 rfl rfl)
theorem dX1_person_1 : decode cX1_person 1 = .ok (.invokevirtual 73, 3) := dk_182 0 73 (dk_at dksX1_person_0 1 rfl rfl)
theorem dX1_person_4 : decode cX1_person 4 = .ok (.aload_n 0, 1) := dk_42 (dk_at dksX1_person_0 4 rfl rfl)
theorem dX1_person_5 : decode cX1_person 5 = .ok (.iload_n 1, 1) := dk_27 (dk_at dksX1_person_0 5 rfl rfl)
theorem dX1_person_6 : decode cX1_person 6 = .ok (.invokevirtual 133, 3) := dk_182 0 133 (dk_at dksX1_person_0 6 rfl rfl)
theorem dX1_person_9 : decode cX1_person 9 = .ok (.ifCond .ne 9, 3) := dk_154 0 9 (dk_at dksX1_person_0 9 rfl rfl)
theorem dX1_person_12 : decode cX1_person 12 = .ok (.aload_n 0, 1) := dk_42 (dk_at dksX1_person_0 12 rfl rfl)
theorem dX1_person_13 : decode cX1_person 13 = .ok (.iconst 1, 1) := dk_4 (dk_at dksX1_person_0 13 rfl rfl)
theorem dX1_person_14 : decode cX1_person 14 = .ok (.invokevirtual 87, 3) := dk_182 0 87 (dk_at dksX1_person_0 14 rfl rfl)
theorem dX1_person_17 : decode cX1_person 17 = .ok (.ireturn, 1) := dk_172 (dk_at dksX1_person_0 17 rfl rfl)
theorem dX1_person_18 : decode cX1_person 18 = .ok (.iload_n 2, 1) := dk_28 (dk_at dksX1_person_0 18 rfl rfl)
theorem dX1_person_19 : decode cX1_person 19 = .ok (.tableswitch 60 0 2 #[25, 35, 44], 25) := by decide +kernel
theorem dX1_person_44 : decode cX1_person 44 = .ok (.aload_n 0, 1) := dk_42 (dk_at dksX1_person_2 0 rfl rfl)
theorem dX1_person_45 : decode cX1_person 45 = .ok (.getfield 33, 3) := dk_180 0 33 (dk_at dksX1_person_2 1 rfl rfl)
theorem dX1_person_48 : decode cX1_person 48 = .ok (.getfield 137, 3) := dk_180 0 137 (dk_at dksX1_person_2 4 rfl rfl)
theorem dX1_person_51 : decode cX1_person 51 = .ok (.iload_n 1, 1) := dk_27 (dk_at dksX1_person_2 7 rfl rfl)
theorem dX1_person_52 : decode cX1_person 52 = .ok (.iaload, 1) := dk_46 (dk_at dksX1_person_2 8 rfl rfl)
theorem dX1_person_53 : decode cX1_person 53 = .ok (.ireturn, 1) := dk_172 (dk_at dksX1_person_2 9 rfl rfl)
theorem dX1_person_54 : decode cX1_person 54 = .ok (.aload_n 0, 1) := dk_42 (dk_at dksX1_person_2 10 rfl rfl)
theorem dX1_person_55 : decode cX1_person 55 = .ok (.getfield 33, 3) := dk_180 0 33 (dk_at dksX1_person_2 11 rfl rfl)
theorem dX1_person_58 : decode cX1_person 58 = .ok (.iload_n 1, 1) := dk_27 (dk_at dksX1_person_2 14 rfl rfl)
theorem dX1_person_59 : decode cX1_person 59 = .ok (.invokevirtual 140, 3) := dk_182 0 140 (dk_at dksX1_person_2 15 rfl rfl)
theorem dX1_person_62 : decode cX1_person 62 = .ok (.ireturn, 1) := dk_172 (dk_at dksX1_person_2 18 rfl rfl)
theorem dX1_person_63 : decode cX1_person 63 = .ok (.aload_n 0, 1) := dk_42 (dk_at dksX1_person_2 19 rfl rfl)
theorem dX1_person_64 : decode cX1_person 64 = .ok (.getfield 33, 3) := dk_180 0 33 (dk_at dksX1_person_2 20 rfl rfl)
theorem dX1_person_67 : decode cX1_person 67 = .ok (.iload_n 1, 1) := dk_27 (dk_at dksX1_person_2 23 rfl rfl)
theorem dX1_person_68 : decode cX1_person 68 = .ok (.aload_n 0, 1) := dk_42 (dk_at dksX1_person_3 0 rfl rfl)
theorem dX1_person_69 : decode cX1_person 69 = .ok (.getfield 33, 3) := dk_180 0 33 (dk_at dksX1_person_3 1 rfl rfl)
theorem dX1_person_72 : decode cX1_person 72 = .ok (.getfield 143, 3) := dk_180 0 143 (dk_at dksX1_person_3 4 rfl rfl)
theorem dX1_person_75 : decode cX1_person 75 = .ok (.invokevirtual 146, 3) := dk_182 0 146 (dk_at dksX1_person_3 7 rfl rfl)
theorem dX1_person_78 : decode cX1_person 78 = .ok (.ireturn, 1) := dk_172 (dk_at dksX1_person_3 10 rfl rfl)
theorem dX1_person_79 : decode cX1_person 79 = .ok (.aload_n 0, 1) := dk_42 (dk_at dksX1_person_3 11 rfl rfl)
theorem dX1_person_80 : decode cX1_person 80 = .ok (.iconst 1, 1) := dk_4 (dk_at dksX1_person_3 12 rfl rfl)
theorem dX1_person_81 : decode cX1_person 81 = .ok (.invokevirtual 87, 3) := dk_182 0 87 (dk_at dksX1_person_3 13 rfl rfl)
theorem dX1_person_84 : decode cX1_person 84 = .ok (.ireturn, 1) := dk_172 (dk_at dksX1_person_3 16 rfl rfl)
abbrev cX1_isPerson : ByteArray := prog_1_method_16_code
def yX1_isPerson : MethodName := ⟨RX1, "isPerson", "(I)Z"⟩
def dkwX1_isPerson_1 : List UInt8 := [4, 167, 0, 4, 3, 172]
abbrev dktX1_isPerson_1 : List UInt8 := dkwX1_isPerson_1 ++ []
def dkwX1_isPerson_0 : List UInt8 := [42, 180, 0, 98, 198, 0, 24, 27, 3, 42, 180, 0, 98, 180, 0, 118, 4, 100, 184, 0, 83, 153, 0, 7]
abbrev dktX1_isPerson_0 : List UInt8 := dkwX1_isPerson_0 ++ dktX1_isPerson_1
theorem dksX1_isPerson_0 : cX1_isPerson.data.toList.drop 0 = dktX1_isPerson_0 := by decide +kernel
theorem dksX1_isPerson_1 : cX1_isPerson.data.toList.drop 24 = dktX1_isPerson_1 := dk_seg dksX1_isPerson_0 24 rfl rfl
theorem dX1_isPerson_0 : decode cX1_isPerson 0 = .ok (.aload_n 0, 1) := dk_42 (dk_at dksX1_isPerson_0 0 rfl rfl)
theorem dX1_isPerson_1 : decode cX1_isPerson 1 = .ok (.getfield 98, 3) := dk_180 0 98 (dk_at dksX1_isPerson_0 1 rfl rfl)
theorem dX1_isPerson_4 : decode cX1_isPerson 4 = .ok (.ifnull 24, 3) := dk_198 0 24 (dk_at dksX1_isPerson_0 4 rfl rfl)
theorem dX1_isPerson_7 : decode cX1_isPerson 7 = .ok (.iload_n 1, 1) := dk_27 (dk_at dksX1_isPerson_0 7 rfl rfl)
theorem dX1_isPerson_8 : decode cX1_isPerson 8 = .ok (.iconst 0, 1) := dk_3 (dk_at dksX1_isPerson_0 8 rfl rfl)
theorem dX1_isPerson_9 : decode cX1_isPerson 9 = .ok (.aload_n 0, 1) := dk_42 (dk_at dksX1_isPerson_0 9 rfl rfl)
theorem dX1_isPerson_10 : decode cX1_isPerson 10 = .ok (.getfield 98, 3) := dk_180 0 98 (dk_at dksX1_isPerson_0 10 rfl rfl)
theorem dX1_isPerson_13 : decode cX1_isPerson 13 = .ok (.getfield 118, 3) := dk_180 0 118 (dk_at dksX1_isPerson_0 13 rfl rfl)
theorem dX1_isPerson_16 : decode cX1_isPerson 16 = .ok (.iconst 1, 1) := dk_4 (dk_at dksX1_isPerson_0 16 rfl rfl)
theorem dX1_isPerson_17 : decode cX1_isPerson 17 = .ok (.isub, 1) := dk_100 (dk_at dksX1_isPerson_0 17 rfl rfl)
theorem dX1_isPerson_18 : decode cX1_isPerson 18 = .ok (.invokestatic 83, 3) := dk_184 0 83 (dk_at dksX1_isPerson_0 18 rfl rfl)
theorem dX1_isPerson_21 : decode cX1_isPerson 21 = .ok (.ifCond .eq 7, 3) := dk_153 0 7 (dk_at dksX1_isPerson_0 21 rfl rfl)
theorem dX1_isPerson_24 : decode cX1_isPerson 24 = .ok (.iconst 1, 1) := dk_4 (dk_at dksX1_isPerson_1 0 rfl rfl)
theorem dX1_isPerson_25 : decode cX1_isPerson 25 = .ok (.goto 4, 3) := dk_167 0 4 (dk_at dksX1_isPerson_1 1 rfl rfl)
theorem dX1_isPerson_28 : decode cX1_isPerson 28 = .ok (.iconst 0, 1) := dk_3 (dk_at dksX1_isPerson_1 4 rfl rfl)
theorem dX1_isPerson_29 : decode cX1_isPerson 29 = .ok (.ireturn, 1) := dk_172 (dk_at dksX1_isPerson_1 5 rfl rfl)
abbrev cX1_wrap : ByteArray := prog_1_method_6_code
def yX1_wrap : MethodName := ⟨RX1, "wrap", "(JI)I"⟩
def dkwX1_wrap_0 : List UInt8 := [30, 28, 133, 113, 28, 133, 97, 28, 133, 113, 136, 172]
abbrev dktX1_wrap_0 : List UInt8 := dkwX1_wrap_0 ++ []
theorem dksX1_wrap_0 : cX1_wrap.data.toList.drop 0 = dktX1_wrap_0 := by decide +kernel
theorem dX1_wrap_0 : decode cX1_wrap 0 = .ok (.lload_n 0, 1) := dk_30 (dk_at dksX1_wrap_0 0 rfl rfl)
theorem dX1_wrap_1 : decode cX1_wrap 1 = .ok (.iload_n 2, 1) := dk_28 (dk_at dksX1_wrap_0 1 rfl rfl)
theorem dX1_wrap_2 : decode cX1_wrap 2 = .ok (.i2l, 1) := dk_133 (dk_at dksX1_wrap_0 2 rfl rfl)
theorem dX1_wrap_3 : decode cX1_wrap 3 = .ok (.lrem, 1) := dk_113 (dk_at dksX1_wrap_0 3 rfl rfl)
theorem dX1_wrap_4 : decode cX1_wrap 4 = .ok (.iload_n 2, 1) := dk_28 (dk_at dksX1_wrap_0 4 rfl rfl)
theorem dX1_wrap_5 : decode cX1_wrap 5 = .ok (.i2l, 1) := dk_133 (dk_at dksX1_wrap_0 5 rfl rfl)
theorem dX1_wrap_6 : decode cX1_wrap 6 = .ok (.ladd, 1) := dk_97 (dk_at dksX1_wrap_0 6 rfl rfl)
theorem dX1_wrap_7 : decode cX1_wrap 7 = .ok (.iload_n 2, 1) := dk_28 (dk_at dksX1_wrap_0 7 rfl rfl)
theorem dX1_wrap_8 : decode cX1_wrap 8 = .ok (.i2l, 1) := dk_133 (dk_at dksX1_wrap_0 8 rfl rfl)
theorem dX1_wrap_9 : decode cX1_wrap 9 = .ok (.lrem, 1) := dk_113 (dk_at dksX1_wrap_0 9 rfl rfl)
theorem dX1_wrap_10 : decode cX1_wrap 10 = .ok (.l2i, 1) := dk_136 (dk_at dksX1_wrap_0 10 rfl rfl)
theorem dX1_wrap_11 : decode cX1_wrap 11 = .ok (.ireturn, 1) := dk_172 (dk_at dksX1_wrap_0 11 rfl rfl)
abbrev cX1_dead : ByteArray := prog_1_method_22_code
def yX1_dead : MethodName := ⟨RX1, "dead", "(II)I"⟩
def dkwX1_dead_4 : List UInt8 := [182, 0, 87, 172]
abbrev dktX1_dead_4 : List UInt8 := dkwX1_dead_4 ++ []
def dkwX1_dead_3 : List UInt8 := [180, 0, 98, 180, 0, 153, 27, 50, 180, 0, 166, 172, 42, 180, 0, 33, 180, 0, 169, 27, 46, 172, 42, 4]
abbrev dktX1_dead_3 : List UInt8 := dkwX1_dead_3 ++ dktX1_dead_4
def dkwX1_dead_2 : List UInt8 := [42, 180, 0, 98, 180, 0, 153, 27, 50, 182, 0, 157, 172, 42, 180, 0, 33, 180, 0, 163, 27, 46, 172, 42]
abbrev dktX1_dead_2 : List UInt8 := dkwX1_dead_2 ++ dktX1_dead_3
def dkwX1_dead_1 : List UInt8 := [170, 0, 0, 0, 75, 0, 0, 0, 0, 0, 0, 0, 3, 0, 0, 0, 29, 0, 0, 0, 42, 0, 0, 0, 52, 0, 0, 0, 65]
abbrev dktX1_dead_1 : List UInt8 := dkwX1_dead_1 ++ dktX1_dead_2
def dkwX1_dead_0 : List UInt8 := [42, 182, 0, 73, 42, 27, 182, 0, 150, 154, 0, 9, 42, 4, 182, 0, 87, 172, 28]
abbrev dktX1_dead_0 : List UInt8 := dkwX1_dead_0 ++ dktX1_dead_1
theorem dksX1_dead_0 : cX1_dead.data.toList.drop 0 = dktX1_dead_0 := by decide +kernel
theorem dksX1_dead_1 : cX1_dead.data.toList.drop 19 = dktX1_dead_1 := dk_seg dksX1_dead_0 19 rfl rfl
theorem dksX1_dead_2 : cX1_dead.data.toList.drop 48 = dktX1_dead_2 := dk_seg dksX1_dead_1 29 rfl rfl
theorem dksX1_dead_3 : cX1_dead.data.toList.drop 72 = dktX1_dead_3 := dk_seg dksX1_dead_2 24 rfl rfl
theorem dksX1_dead_4 : cX1_dead.data.toList.drop 96 = dktX1_dead_4 := dk_seg dksX1_dead_3 24 rfl rfl
theorem dX1_dead_0 : decode cX1_dead 0 = .ok (.aload_n 0, 1) := dk_42 (dk_at dksX1_dead_0 0 rfl rfl)
theorem dX1_dead_1 : decode cX1_dead 1 = .ok (.invokevirtual 73, 3) := dk_182 0 73 (dk_at dksX1_dead_0 1 rfl rfl)
theorem dX1_dead_4 : decode cX1_dead 4 = .ok (.aload_n 0, 1) := dk_42 (dk_at dksX1_dead_0 4 rfl rfl)
theorem dX1_dead_5 : decode cX1_dead 5 = .ok (.iload_n 1, 1) := dk_27 (dk_at dksX1_dead_0 5 rfl rfl)
theorem dX1_dead_6 : decode cX1_dead 6 = .ok (.invokevirtual 150, 3) := dk_182 0 150 (dk_at dksX1_dead_0 6 rfl rfl)
theorem dX1_dead_9 : decode cX1_dead 9 = .ok (.ifCond .ne 9, 3) := dk_154 0 9 (dk_at dksX1_dead_0 9 rfl rfl)
theorem dX1_dead_12 : decode cX1_dead 12 = .ok (.aload_n 0, 1) := dk_42 (dk_at dksX1_dead_0 12 rfl rfl)
theorem dX1_dead_13 : decode cX1_dead 13 = .ok (.iconst 1, 1) := dk_4 (dk_at dksX1_dead_0 13 rfl rfl)
theorem dX1_dead_14 : decode cX1_dead 14 = .ok (.invokevirtual 87, 3) := dk_182 0 87 (dk_at dksX1_dead_0 14 rfl rfl)
theorem dX1_dead_17 : decode cX1_dead 17 = .ok (.ireturn, 1) := dk_172 (dk_at dksX1_dead_0 17 rfl rfl)
theorem dX1_dead_18 : decode cX1_dead 18 = .ok (.iload_n 2, 1) := dk_28 (dk_at dksX1_dead_0 18 rfl rfl)
theorem dX1_dead_19 : decode cX1_dead 19 = .ok (.tableswitch 75 0 3 #[29, 42, 52, 65], 29) := by decide +kernel
theorem dX1_dead_48 : decode cX1_dead 48 = .ok (.aload_n 0, 1) := dk_42 (dk_at dksX1_dead_2 0 rfl rfl)
theorem dX1_dead_49 : decode cX1_dead 49 = .ok (.getfield 98, 3) := dk_180 0 98 (dk_at dksX1_dead_2 1 rfl rfl)
theorem dX1_dead_52 : decode cX1_dead 52 = .ok (.getfield 153, 3) := dk_180 0 153 (dk_at dksX1_dead_2 4 rfl rfl)
theorem dX1_dead_55 : decode cX1_dead 55 = .ok (.iload_n 1, 1) := dk_27 (dk_at dksX1_dead_2 7 rfl rfl)
theorem dX1_dead_56 : decode cX1_dead 56 = .ok (.aaload, 1) := dk_50 (dk_at dksX1_dead_2 8 rfl rfl)
theorem dX1_dead_57 : decode cX1_dead 57 = .ok (.invokevirtual 157, 3) := dk_182 0 157 (dk_at dksX1_dead_2 9 rfl rfl)
theorem dX1_dead_60 : decode cX1_dead 60 = .ok (.ireturn, 1) := dk_172 (dk_at dksX1_dead_2 12 rfl rfl)
theorem dX1_dead_61 : decode cX1_dead 61 = .ok (.aload_n 0, 1) := dk_42 (dk_at dksX1_dead_2 13 rfl rfl)
theorem dX1_dead_62 : decode cX1_dead 62 = .ok (.getfield 33, 3) := dk_180 0 33 (dk_at dksX1_dead_2 14 rfl rfl)
theorem dX1_dead_65 : decode cX1_dead 65 = .ok (.getfield 163, 3) := dk_180 0 163 (dk_at dksX1_dead_2 17 rfl rfl)
theorem dX1_dead_68 : decode cX1_dead 68 = .ok (.iload_n 1, 1) := dk_27 (dk_at dksX1_dead_2 20 rfl rfl)
theorem dX1_dead_69 : decode cX1_dead 69 = .ok (.iaload, 1) := dk_46 (dk_at dksX1_dead_2 21 rfl rfl)
theorem dX1_dead_70 : decode cX1_dead 70 = .ok (.ireturn, 1) := dk_172 (dk_at dksX1_dead_2 22 rfl rfl)
theorem dX1_dead_71 : decode cX1_dead 71 = .ok (.aload_n 0, 1) := dk_42 (dk_at dksX1_dead_2 23 rfl rfl)
theorem dX1_dead_72 : decode cX1_dead 72 = .ok (.getfield 98, 3) := dk_180 0 98 (dk_at dksX1_dead_3 0 rfl rfl)
theorem dX1_dead_75 : decode cX1_dead 75 = .ok (.getfield 153, 3) := dk_180 0 153 (dk_at dksX1_dead_3 3 rfl rfl)
theorem dX1_dead_78 : decode cX1_dead 78 = .ok (.iload_n 1, 1) := dk_27 (dk_at dksX1_dead_3 6 rfl rfl)
theorem dX1_dead_79 : decode cX1_dead 79 = .ok (.aaload, 1) := dk_50 (dk_at dksX1_dead_3 7 rfl rfl)
theorem dX1_dead_80 : decode cX1_dead 80 = .ok (.getfield 166, 3) := dk_180 0 166 (dk_at dksX1_dead_3 8 rfl rfl)
theorem dX1_dead_83 : decode cX1_dead 83 = .ok (.ireturn, 1) := dk_172 (dk_at dksX1_dead_3 11 rfl rfl)
theorem dX1_dead_84 : decode cX1_dead 84 = .ok (.aload_n 0, 1) := dk_42 (dk_at dksX1_dead_3 12 rfl rfl)
theorem dX1_dead_85 : decode cX1_dead 85 = .ok (.getfield 33, 3) := dk_180 0 33 (dk_at dksX1_dead_3 13 rfl rfl)
theorem dX1_dead_88 : decode cX1_dead 88 = .ok (.getfield 169, 3) := dk_180 0 169 (dk_at dksX1_dead_3 16 rfl rfl)
theorem dX1_dead_91 : decode cX1_dead 91 = .ok (.iload_n 1, 1) := dk_27 (dk_at dksX1_dead_3 19 rfl rfl)
theorem dX1_dead_92 : decode cX1_dead 92 = .ok (.iaload, 1) := dk_46 (dk_at dksX1_dead_3 20 rfl rfl)
theorem dX1_dead_93 : decode cX1_dead 93 = .ok (.ireturn, 1) := dk_172 (dk_at dksX1_dead_3 21 rfl rfl)
theorem dX1_dead_94 : decode cX1_dead 94 = .ok (.aload_n 0, 1) := dk_42 (dk_at dksX1_dead_3 22 rfl rfl)
theorem dX1_dead_95 : decode cX1_dead 95 = .ok (.iconst 1, 1) := dk_4 (dk_at dksX1_dead_3 23 rfl rfl)
theorem dX1_dead_96 : decode cX1_dead 96 = .ok (.invokevirtual 87, 3) := dk_182 0 87 (dk_at dksX1_dead_4 0 rfl rfl)
theorem dX1_dead_99 : decode cX1_dead 99 = .ok (.ireturn, 1) := dk_172 (dk_at dksX1_dead_4 3 rfl rfl)
abbrev cX1_isDead : ByteArray := prog_1_method_17_code
def yX1_isDead : MethodName := ⟨RX1, "isDead", "(I)Z"⟩
def dkwX1_isDead_1 : List UInt8 := [4, 167, 0, 4, 3, 172]
abbrev dktX1_isDead_1 : List UInt8 := dkwX1_isDead_1 ++ []
def dkwX1_isDead_0 : List UInt8 := [42, 180, 0, 98, 198, 0, 24, 27, 3, 42, 180, 0, 98, 180, 0, 123, 4, 100, 184, 0, 83, 153, 0, 7]
abbrev dktX1_isDead_0 : List UInt8 := dkwX1_isDead_0 ++ dktX1_isDead_1
theorem dksX1_isDead_0 : cX1_isDead.data.toList.drop 0 = dktX1_isDead_0 := by decide +kernel
theorem dksX1_isDead_1 : cX1_isDead.data.toList.drop 24 = dktX1_isDead_1 := dk_seg dksX1_isDead_0 24 rfl rfl
theorem dX1_isDead_0 : decode cX1_isDead 0 = .ok (.aload_n 0, 1) := dk_42 (dk_at dksX1_isDead_0 0 rfl rfl)
theorem dX1_isDead_1 : decode cX1_isDead 1 = .ok (.getfield 98, 3) := dk_180 0 98 (dk_at dksX1_isDead_0 1 rfl rfl)
theorem dX1_isDead_4 : decode cX1_isDead 4 = .ok (.ifnull 24, 3) := dk_198 0 24 (dk_at dksX1_isDead_0 4 rfl rfl)
theorem dX1_isDead_7 : decode cX1_isDead 7 = .ok (.iload_n 1, 1) := dk_27 (dk_at dksX1_isDead_0 7 rfl rfl)
theorem dX1_isDead_8 : decode cX1_isDead 8 = .ok (.iconst 0, 1) := dk_3 (dk_at dksX1_isDead_0 8 rfl rfl)
theorem dX1_isDead_9 : decode cX1_isDead 9 = .ok (.aload_n 0, 1) := dk_42 (dk_at dksX1_isDead_0 9 rfl rfl)
theorem dX1_isDead_10 : decode cX1_isDead 10 = .ok (.getfield 98, 3) := dk_180 0 98 (dk_at dksX1_isDead_0 10 rfl rfl)
theorem dX1_isDead_13 : decode cX1_isDead 13 = .ok (.getfield 123, 3) := dk_180 0 123 (dk_at dksX1_isDead_0 13 rfl rfl)
theorem dX1_isDead_16 : decode cX1_isDead 16 = .ok (.iconst 1, 1) := dk_4 (dk_at dksX1_isDead_0 16 rfl rfl)
theorem dX1_isDead_17 : decode cX1_isDead 17 = .ok (.isub, 1) := dk_100 (dk_at dksX1_isDead_0 17 rfl rfl)
theorem dX1_isDead_18 : decode cX1_isDead 18 = .ok (.invokestatic 83, 3) := dk_184 0 83 (dk_at dksX1_isDead_0 18 rfl rfl)
theorem dX1_isDead_21 : decode cX1_isDead 21 = .ok (.ifCond .eq 7, 3) := dk_153 0 7 (dk_at dksX1_isDead_0 21 rfl rfl)
theorem dX1_isDead_24 : decode cX1_isDead 24 = .ok (.iconst 1, 1) := dk_4 (dk_at dksX1_isDead_1 0 rfl rfl)
theorem dX1_isDead_25 : decode cX1_isDead 25 = .ok (.goto 4, 3) := dk_167 0 4 (dk_at dksX1_isDead_1 1 rfl rfl)
theorem dX1_isDead_28 : decode cX1_isDead 28 = .ok (.iconst 0, 1) := dk_3 (dk_at dksX1_isDead_1 4 rfl rfl)
theorem dX1_isDead_29 : decode cX1_isDead 29 = .ok (.ireturn, 1) := dk_172 (dk_at dksX1_isDead_1 5 rfl rfl)
abbrev cX1_house : ByteArray := prog_1_method_23_code
def yX1_house : MethodName := ⟨RX1, "house", "(I)I"⟩
def dkwX1_house_1 : List UInt8 := [4, 182, 0, 87, 172]
abbrev dktX1_house_1 : List UInt8 := dkwX1_house_1 ++ []
def dkwX1_house_0 : List UInt8 := [42, 182, 0, 73, 42, 27, 182, 0, 172, 153, 0, 14, 42, 180, 0, 33, 27, 182, 0, 175, 167, 0, 8, 42]
abbrev dktX1_house_0 : List UInt8 := dkwX1_house_0 ++ dktX1_house_1
theorem dksX1_house_0 : cX1_house.data.toList.drop 0 = dktX1_house_0 := by decide +kernel
theorem dksX1_house_1 : cX1_house.data.toList.drop 24 = dktX1_house_1 := dk_seg dksX1_house_0 24 rfl rfl
theorem dX1_house_0 : decode cX1_house 0 = .ok (.aload_n 0, 1) := dk_42 (dk_at dksX1_house_0 0 rfl rfl)
theorem dX1_house_1 : decode cX1_house 1 = .ok (.invokevirtual 73, 3) := dk_182 0 73 (dk_at dksX1_house_0 1 rfl rfl)
theorem dX1_house_4 : decode cX1_house 4 = .ok (.aload_n 0, 1) := dk_42 (dk_at dksX1_house_0 4 rfl rfl)
theorem dX1_house_5 : decode cX1_house 5 = .ok (.iload_n 1, 1) := dk_27 (dk_at dksX1_house_0 5 rfl rfl)
theorem dX1_house_6 : decode cX1_house 6 = .ok (.invokevirtual 172, 3) := dk_182 0 172 (dk_at dksX1_house_0 6 rfl rfl)
theorem dX1_house_9 : decode cX1_house 9 = .ok (.ifCond .eq 14, 3) := dk_153 0 14 (dk_at dksX1_house_0 9 rfl rfl)
theorem dX1_house_12 : decode cX1_house 12 = .ok (.aload_n 0, 1) := dk_42 (dk_at dksX1_house_0 12 rfl rfl)
theorem dX1_house_13 : decode cX1_house 13 = .ok (.getfield 33, 3) := dk_180 0 33 (dk_at dksX1_house_0 13 rfl rfl)
theorem dX1_house_16 : decode cX1_house 16 = .ok (.iload_n 1, 1) := dk_27 (dk_at dksX1_house_0 16 rfl rfl)
theorem dX1_house_17 : decode cX1_house 17 = .ok (.invokevirtual 175, 3) := dk_182 0 175 (dk_at dksX1_house_0 17 rfl rfl)
theorem dX1_house_20 : decode cX1_house 20 = .ok (.goto 8, 3) := dk_167 0 8 (dk_at dksX1_house_0 20 rfl rfl)
theorem dX1_house_23 : decode cX1_house 23 = .ok (.aload_n 0, 1) := dk_42 (dk_at dksX1_house_0 23 rfl rfl)
theorem dX1_house_24 : decode cX1_house 24 = .ok (.iconst 1, 1) := dk_4 (dk_at dksX1_house_1 0 rfl rfl)
theorem dX1_house_25 : decode cX1_house 25 = .ok (.invokevirtual 87, 3) := dk_182 0 87 (dk_at dksX1_house_1 1 rfl rfl)
theorem dX1_house_28 : decode cX1_house 28 = .ok (.ireturn, 1) := dk_172 (dk_at dksX1_house_1 4 rfl rfl)
abbrev cX1_isHouse : ByteArray := prog_1_method_18_code
def yX1_isHouse : MethodName := ⟨RX1, "isHouse", "(I)Z"⟩
def dkwX1_isHouse_1 : List UInt8 := [4, 167, 0, 4, 3, 172]
abbrev dktX1_isHouse_1 : List UInt8 := dkwX1_isHouse_1 ++ []
def dkwX1_isHouse_0 : List UInt8 := [42, 180, 0, 98, 198, 0, 24, 27, 3, 42, 180, 0, 98, 180, 0, 126, 4, 100, 184, 0, 83, 153, 0, 7]
abbrev dktX1_isHouse_0 : List UInt8 := dkwX1_isHouse_0 ++ dktX1_isHouse_1
theorem dksX1_isHouse_0 : cX1_isHouse.data.toList.drop 0 = dktX1_isHouse_0 := by decide +kernel
theorem dksX1_isHouse_1 : cX1_isHouse.data.toList.drop 24 = dktX1_isHouse_1 := dk_seg dksX1_isHouse_0 24 rfl rfl
theorem dX1_isHouse_0 : decode cX1_isHouse 0 = .ok (.aload_n 0, 1) := dk_42 (dk_at dksX1_isHouse_0 0 rfl rfl)
theorem dX1_isHouse_1 : decode cX1_isHouse 1 = .ok (.getfield 98, 3) := dk_180 0 98 (dk_at dksX1_isHouse_0 1 rfl rfl)
theorem dX1_isHouse_4 : decode cX1_isHouse 4 = .ok (.ifnull 24, 3) := dk_198 0 24 (dk_at dksX1_isHouse_0 4 rfl rfl)
theorem dX1_isHouse_7 : decode cX1_isHouse 7 = .ok (.iload_n 1, 1) := dk_27 (dk_at dksX1_isHouse_0 7 rfl rfl)
theorem dX1_isHouse_8 : decode cX1_isHouse 8 = .ok (.iconst 0, 1) := dk_3 (dk_at dksX1_isHouse_0 8 rfl rfl)
theorem dX1_isHouse_9 : decode cX1_isHouse 9 = .ok (.aload_n 0, 1) := dk_42 (dk_at dksX1_isHouse_0 9 rfl rfl)
theorem dX1_isHouse_10 : decode cX1_isHouse 10 = .ok (.getfield 98, 3) := dk_180 0 98 (dk_at dksX1_isHouse_0 10 rfl rfl)
theorem dX1_isHouse_13 : decode cX1_isHouse 13 = .ok (.getfield 126, 3) := dk_180 0 126 (dk_at dksX1_isHouse_0 13 rfl rfl)
theorem dX1_isHouse_16 : decode cX1_isHouse 16 = .ok (.iconst 1, 1) := dk_4 (dk_at dksX1_isHouse_0 16 rfl rfl)
theorem dX1_isHouse_17 : decode cX1_isHouse 17 = .ok (.isub, 1) := dk_100 (dk_at dksX1_isHouse_0 17 rfl rfl)
theorem dX1_isHouse_18 : decode cX1_isHouse 18 = .ok (.invokestatic 83, 3) := dk_184 0 83 (dk_at dksX1_isHouse_0 18 rfl rfl)
theorem dX1_isHouse_21 : decode cX1_isHouse 21 = .ok (.ifCond .eq 7, 3) := dk_153 0 7 (dk_at dksX1_isHouse_0 21 rfl rfl)
theorem dX1_isHouse_24 : decode cX1_isHouse 24 = .ok (.iconst 1, 1) := dk_4 (dk_at dksX1_isHouse_1 0 rfl rfl)
theorem dX1_isHouse_25 : decode cX1_isHouse 25 = .ok (.goto 4, 3) := dk_167 0 4 (dk_at dksX1_isHouse_1 1 rfl rfl)
theorem dX1_isHouse_28 : decode cX1_isHouse 28 = .ok (.iconst 0, 1) := dk_3 (dk_at dksX1_isHouse_1 4 rfl rfl)
theorem dX1_isHouse_29 : decode cX1_isHouse 29 = .ok (.ireturn, 1) := dk_172 (dk_at dksX1_isHouse_1 5 rfl rfl)
abbrev cX1_comesOut : ByteArray := prog_1_method_24_code
def yX1_comesOut : MethodName := ⟨RX1, "comesOut", "(II)I"⟩
def dkwX1_comesOut_1 : List UInt8 := [167, 0, 20, 42, 180, 0, 33, 27, 42, 180, 0, 33, 27, 182, 0, 182, 28, 182, 0, 185, 172]
abbrev dktX1_comesOut_1 : List UInt8 := dkwX1_comesOut_1 ++ []
def dkwX1_comesOut_0 : List UInt8 := [42, 182, 0, 73, 42, 42, 27, 182, 0, 150, 28, 182, 0, 178, 62, 29, 153, 0, 11, 42, 29, 182, 0, 87]
abbrev dktX1_comesOut_0 : List UInt8 := dkwX1_comesOut_0 ++ dktX1_comesOut_1
theorem dksX1_comesOut_0 : cX1_comesOut.data.toList.drop 0 = dktX1_comesOut_0 := by decide +kernel
theorem dksX1_comesOut_1 : cX1_comesOut.data.toList.drop 24 = dktX1_comesOut_1 := dk_seg dksX1_comesOut_0 24 rfl rfl
theorem dX1_comesOut_0 : decode cX1_comesOut 0 = .ok (.aload_n 0, 1) := dk_42 (dk_at dksX1_comesOut_0 0 rfl rfl)
theorem dX1_comesOut_1 : decode cX1_comesOut 1 = .ok (.invokevirtual 73, 3) := dk_182 0 73 (dk_at dksX1_comesOut_0 1 rfl rfl)
theorem dX1_comesOut_4 : decode cX1_comesOut 4 = .ok (.aload_n 0, 1) := dk_42 (dk_at dksX1_comesOut_0 4 rfl rfl)
theorem dX1_comesOut_5 : decode cX1_comesOut 5 = .ok (.aload_n 0, 1) := dk_42 (dk_at dksX1_comesOut_0 5 rfl rfl)
theorem dX1_comesOut_6 : decode cX1_comesOut 6 = .ok (.iload_n 1, 1) := dk_27 (dk_at dksX1_comesOut_0 6 rfl rfl)
theorem dX1_comesOut_7 : decode cX1_comesOut 7 = .ok (.invokevirtual 150, 3) := dk_182 0 150 (dk_at dksX1_comesOut_0 7 rfl rfl)
theorem dX1_comesOut_10 : decode cX1_comesOut 10 = .ok (.iload_n 2, 1) := dk_28 (dk_at dksX1_comesOut_0 10 rfl rfl)
theorem dX1_comesOut_11 : decode cX1_comesOut 11 = .ok (.invokevirtual 178, 3) := dk_182 0 178 (dk_at dksX1_comesOut_0 11 rfl rfl)
theorem dX1_comesOut_14 : decode cX1_comesOut 14 = .ok (.istore_n 3, 1) := dk_62 (dk_at dksX1_comesOut_0 14 rfl rfl)
theorem dX1_comesOut_15 : decode cX1_comesOut 15 = .ok (.iload_n 3, 1) := dk_29 (dk_at dksX1_comesOut_0 15 rfl rfl)
theorem dX1_comesOut_16 : decode cX1_comesOut 16 = .ok (.ifCond .eq 11, 3) := dk_153 0 11 (dk_at dksX1_comesOut_0 16 rfl rfl)
theorem dX1_comesOut_19 : decode cX1_comesOut 19 = .ok (.aload_n 0, 1) := dk_42 (dk_at dksX1_comesOut_0 19 rfl rfl)
theorem dX1_comesOut_20 : decode cX1_comesOut 20 = .ok (.iload_n 3, 1) := dk_29 (dk_at dksX1_comesOut_0 20 rfl rfl)
theorem dX1_comesOut_21 : decode cX1_comesOut 21 = .ok (.invokevirtual 87, 3) := dk_182 0 87 (dk_at dksX1_comesOut_0 21 rfl rfl)
theorem dX1_comesOut_24 : decode cX1_comesOut 24 = .ok (.goto 20, 3) := dk_167 0 20 (dk_at dksX1_comesOut_1 0 rfl rfl)
theorem dX1_comesOut_27 : decode cX1_comesOut 27 = .ok (.aload_n 0, 1) := dk_42 (dk_at dksX1_comesOut_1 3 rfl rfl)
theorem dX1_comesOut_28 : decode cX1_comesOut 28 = .ok (.getfield 33, 3) := dk_180 0 33 (dk_at dksX1_comesOut_1 4 rfl rfl)
theorem dX1_comesOut_31 : decode cX1_comesOut 31 = .ok (.iload_n 1, 1) := dk_27 (dk_at dksX1_comesOut_1 7 rfl rfl)
theorem dX1_comesOut_32 : decode cX1_comesOut 32 = .ok (.aload_n 0, 1) := dk_42 (dk_at dksX1_comesOut_1 8 rfl rfl)
theorem dX1_comesOut_33 : decode cX1_comesOut 33 = .ok (.getfield 33, 3) := dk_180 0 33 (dk_at dksX1_comesOut_1 9 rfl rfl)
theorem dX1_comesOut_36 : decode cX1_comesOut 36 = .ok (.iload_n 1, 1) := dk_27 (dk_at dksX1_comesOut_1 12 rfl rfl)
theorem dX1_comesOut_37 : decode cX1_comesOut 37 = .ok (.invokevirtual 182, 3) := dk_182 0 182 (dk_at dksX1_comesOut_1 13 rfl rfl)
theorem dX1_comesOut_40 : decode cX1_comesOut 40 = .ok (.iload_n 2, 1) := dk_28 (dk_at dksX1_comesOut_1 16 rfl rfl)
theorem dX1_comesOut_41 : decode cX1_comesOut 41 = .ok (.invokevirtual 185, 3) := dk_182 0 185 (dk_at dksX1_comesOut_1 17 rfl rfl)
theorem dX1_comesOut_44 : decode cX1_comesOut 44 = .ok (.ireturn, 1) := dk_172 (dk_at dksX1_comesOut_1 20 rfl rfl)
abbrev cX1_nightWhy : ByteArray := prog_1_method_20_code
def yX1_nightWhy : MethodName := ⟨RX1, "nightWhy", "(ZI)I"⟩
def dkwX1_nightWhy_0 : List UInt8 := [42, 27, 28, 3, 16, 99, 184, 0, 83, 182, 0, 129, 172]
abbrev dktX1_nightWhy_0 : List UInt8 := dkwX1_nightWhy_0 ++ []
theorem dksX1_nightWhy_0 : cX1_nightWhy.data.toList.drop 0 = dktX1_nightWhy_0 := by decide +kernel
theorem dX1_nightWhy_0 : decode cX1_nightWhy 0 = .ok (.aload_n 0, 1) := dk_42 (dk_at dksX1_nightWhy_0 0 rfl rfl)
theorem dX1_nightWhy_1 : decode cX1_nightWhy 1 = .ok (.iload_n 1, 1) := dk_27 (dk_at dksX1_nightWhy_0 1 rfl rfl)
theorem dX1_nightWhy_2 : decode cX1_nightWhy 2 = .ok (.iload_n 2, 1) := dk_28 (dk_at dksX1_nightWhy_0 2 rfl rfl)
theorem dX1_nightWhy_3 : decode cX1_nightWhy 3 = .ok (.iconst 0, 1) := dk_3 (dk_at dksX1_nightWhy_0 3 rfl rfl)
theorem dX1_nightWhy_4 : decode cX1_nightWhy 4 = .ok (.bipush 99, 2) := dk_16 99 (dk_at dksX1_nightWhy_0 4 rfl rfl)
theorem dX1_nightWhy_6 : decode cX1_nightWhy 6 = .ok (.invokestatic 83, 3) := dk_184 0 83 (dk_at dksX1_nightWhy_0 6 rfl rfl)
theorem dX1_nightWhy_9 : decode cX1_nightWhy 9 = .ok (.invokevirtual 129, 3) := dk_182 0 129 (dk_at dksX1_nightWhy_0 9 rfl rfl)
theorem dX1_nightWhy_12 : decode cX1_nightWhy 12 = .ok (.ireturn, 1) := dk_172 (dk_at dksX1_nightWhy_0 12 rfl rfl)
abbrev cX1_numberWhy : ByteArray := prog_1_method_19_code
def yX1_numberWhy : MethodName := ⟨RX1, "numberWhy", "(ZZ)I"⟩
def dkwX1_numberWhy_0 : List UInt8 := [27, 154, 0, 7, 4, 167, 0, 12, 28, 153, 0, 7, 3, 167, 0, 4, 5, 172]
abbrev dktX1_numberWhy_0 : List UInt8 := dkwX1_numberWhy_0 ++ []
theorem dksX1_numberWhy_0 : cX1_numberWhy.data.toList.drop 0 = dktX1_numberWhy_0 := by decide +kernel
theorem dX1_numberWhy_0 : decode cX1_numberWhy 0 = .ok (.iload_n 1, 1) := dk_27 (dk_at dksX1_numberWhy_0 0 rfl rfl)
theorem dX1_numberWhy_1 : decode cX1_numberWhy 1 = .ok (.ifCond .ne 7, 3) := dk_154 0 7 (dk_at dksX1_numberWhy_0 1 rfl rfl)
theorem dX1_numberWhy_4 : decode cX1_numberWhy 4 = .ok (.iconst 1, 1) := dk_4 (dk_at dksX1_numberWhy_0 4 rfl rfl)
theorem dX1_numberWhy_5 : decode cX1_numberWhy 5 = .ok (.goto 12, 3) := dk_167 0 12 (dk_at dksX1_numberWhy_0 5 rfl rfl)
theorem dX1_numberWhy_8 : decode cX1_numberWhy 8 = .ok (.iload_n 2, 1) := dk_28 (dk_at dksX1_numberWhy_0 8 rfl rfl)
theorem dX1_numberWhy_9 : decode cX1_numberWhy 9 = .ok (.ifCond .eq 7, 3) := dk_153 0 7 (dk_at dksX1_numberWhy_0 9 rfl rfl)
theorem dX1_numberWhy_12 : decode cX1_numberWhy 12 = .ok (.iconst 0, 1) := dk_3 (dk_at dksX1_numberWhy_0 12 rfl rfl)
theorem dX1_numberWhy_13 : decode cX1_numberWhy 13 = .ok (.goto 4, 3) := dk_167 0 4 (dk_at dksX1_numberWhy_0 13 rfl rfl)
theorem dX1_numberWhy_16 : decode cX1_numberWhy 16 = .ok (.iconst 2, 1) := dk_5 (dk_at dksX1_numberWhy_0 16 rfl rfl)
theorem dX1_numberWhy_17 : decode cX1_numberWhy 17 = .ok (.ireturn, 1) := dk_172 (dk_at dksX1_numberWhy_0 17 rfl rfl)
abbrev cX1_outIf : ByteArray := prog_1_method_25_code
def yX1_outIf : MethodName := ⟨RX1, "outIf", "(III)I"⟩
def dkwX1_outIf_2 : List UInt8 := [42, 180, 0, 33, 27, 28, 29, 182, 0, 185, 172]
abbrev dktX1_outIf_2 : List UInt8 := dkwX1_outIf_2 ++ []
def dkwX1_outIf_1 : List UInt8 := [167, 0, 4, 3, 29, 182, 0, 178, 54, 4, 21, 4, 153, 0, 12, 42, 21, 4, 182, 0, 87, 167, 0, 13]
abbrev dktX1_outIf_1 : List UInt8 := dkwX1_outIf_1 ++ dktX1_outIf_2
def dkwX1_outIf_0 : List UInt8 := [42, 182, 0, 73, 42, 42, 27, 182, 0, 150, 153, 0, 15, 42, 28, 182, 0, 172, 153, 0, 7, 4]
abbrev dktX1_outIf_0 : List UInt8 := dkwX1_outIf_0 ++ dktX1_outIf_1
theorem dksX1_outIf_0 : cX1_outIf.data.toList.drop 0 = dktX1_outIf_0 := by decide +kernel
theorem dksX1_outIf_1 : cX1_outIf.data.toList.drop 22 = dktX1_outIf_1 := dk_seg dksX1_outIf_0 22 rfl rfl
theorem dksX1_outIf_2 : cX1_outIf.data.toList.drop 46 = dktX1_outIf_2 := dk_seg dksX1_outIf_1 24 rfl rfl
theorem dX1_outIf_0 : decode cX1_outIf 0 = .ok (.aload_n 0, 1) := dk_42 (dk_at dksX1_outIf_0 0 rfl rfl)
theorem dX1_outIf_1 : decode cX1_outIf 1 = .ok (.invokevirtual 73, 3) := dk_182 0 73 (dk_at dksX1_outIf_0 1 rfl rfl)
theorem dX1_outIf_4 : decode cX1_outIf 4 = .ok (.aload_n 0, 1) := dk_42 (dk_at dksX1_outIf_0 4 rfl rfl)
theorem dX1_outIf_5 : decode cX1_outIf 5 = .ok (.aload_n 0, 1) := dk_42 (dk_at dksX1_outIf_0 5 rfl rfl)
theorem dX1_outIf_6 : decode cX1_outIf 6 = .ok (.iload_n 1, 1) := dk_27 (dk_at dksX1_outIf_0 6 rfl rfl)
theorem dX1_outIf_7 : decode cX1_outIf 7 = .ok (.invokevirtual 150, 3) := dk_182 0 150 (dk_at dksX1_outIf_0 7 rfl rfl)
theorem dX1_outIf_10 : decode cX1_outIf 10 = .ok (.ifCond .eq 15, 3) := dk_153 0 15 (dk_at dksX1_outIf_0 10 rfl rfl)
theorem dX1_outIf_13 : decode cX1_outIf 13 = .ok (.aload_n 0, 1) := dk_42 (dk_at dksX1_outIf_0 13 rfl rfl)
theorem dX1_outIf_14 : decode cX1_outIf 14 = .ok (.iload_n 2, 1) := dk_28 (dk_at dksX1_outIf_0 14 rfl rfl)
theorem dX1_outIf_15 : decode cX1_outIf 15 = .ok (.invokevirtual 172, 3) := dk_182 0 172 (dk_at dksX1_outIf_0 15 rfl rfl)
theorem dX1_outIf_18 : decode cX1_outIf 18 = .ok (.ifCond .eq 7, 3) := dk_153 0 7 (dk_at dksX1_outIf_0 18 rfl rfl)
theorem dX1_outIf_21 : decode cX1_outIf 21 = .ok (.iconst 1, 1) := dk_4 (dk_at dksX1_outIf_0 21 rfl rfl)
theorem dX1_outIf_22 : decode cX1_outIf 22 = .ok (.goto 4, 3) := dk_167 0 4 (dk_at dksX1_outIf_1 0 rfl rfl)
theorem dX1_outIf_25 : decode cX1_outIf 25 = .ok (.iconst 0, 1) := dk_3 (dk_at dksX1_outIf_1 3 rfl rfl)
theorem dX1_outIf_26 : decode cX1_outIf 26 = .ok (.iload_n 3, 1) := dk_29 (dk_at dksX1_outIf_1 4 rfl rfl)
theorem dX1_outIf_27 : decode cX1_outIf 27 = .ok (.invokevirtual 178, 3) := dk_182 0 178 (dk_at dksX1_outIf_1 5 rfl rfl)
theorem dX1_outIf_30 : decode cX1_outIf 30 = .ok (.istore 4, 2) := dk_54 4 (dk_at dksX1_outIf_1 8 rfl rfl)
theorem dX1_outIf_32 : decode cX1_outIf 32 = .ok (.iload 4, 2) := dk_21 4 (dk_at dksX1_outIf_1 10 rfl rfl)
theorem dX1_outIf_34 : decode cX1_outIf 34 = .ok (.ifCond .eq 12, 3) := dk_153 0 12 (dk_at dksX1_outIf_1 12 rfl rfl)
theorem dX1_outIf_37 : decode cX1_outIf 37 = .ok (.aload_n 0, 1) := dk_42 (dk_at dksX1_outIf_1 15 rfl rfl)
theorem dX1_outIf_38 : decode cX1_outIf 38 = .ok (.iload 4, 2) := dk_21 4 (dk_at dksX1_outIf_1 16 rfl rfl)
theorem dX1_outIf_40 : decode cX1_outIf 40 = .ok (.invokevirtual 87, 3) := dk_182 0 87 (dk_at dksX1_outIf_1 18 rfl rfl)
theorem dX1_outIf_43 : decode cX1_outIf 43 = .ok (.goto 13, 3) := dk_167 0 13 (dk_at dksX1_outIf_1 21 rfl rfl)
theorem dX1_outIf_46 : decode cX1_outIf 46 = .ok (.aload_n 0, 1) := dk_42 (dk_at dksX1_outIf_2 0 rfl rfl)
theorem dX1_outIf_47 : decode cX1_outIf 47 = .ok (.getfield 33, 3) := dk_180 0 33 (dk_at dksX1_outIf_2 1 rfl rfl)
theorem dX1_outIf_50 : decode cX1_outIf 50 = .ok (.iload_n 1, 1) := dk_27 (dk_at dksX1_outIf_2 4 rfl rfl)
theorem dX1_outIf_51 : decode cX1_outIf 51 = .ok (.iload_n 2, 1) := dk_28 (dk_at dksX1_outIf_2 5 rfl rfl)
theorem dX1_outIf_52 : decode cX1_outIf 52 = .ok (.iload_n 3, 1) := dk_29 (dk_at dksX1_outIf_2 6 rfl rfl)
theorem dX1_outIf_53 : decode cX1_outIf 53 = .ok (.invokevirtual 185, 3) := dk_182 0 185 (dk_at dksX1_outIf_2 7 rfl rfl)
theorem dX1_outIf_56 : decode cX1_outIf 56 = .ok (.ireturn, 1) := dk_172 (dk_at dksX1_outIf_2 10 rfl rfl)
abbrev cX1_hears : ByteArray := prog_1_method_26_code
def yX1_hears : MethodName := ⟨RX1, "hears", "(II)I"⟩
def dkwX1_hears_1 : List UInt8 := [167, 0, 13, 42, 180, 0, 33, 27, 28, 3, 182, 0, 189, 172]
abbrev dktX1_hears_1 : List UInt8 := dkwX1_hears_1 ++ []
def dkwX1_hears_0 : List UInt8 := [42, 182, 0, 73, 42, 42, 27, 182, 0, 150, 28, 182, 0, 178, 62, 29, 153, 0, 11, 42, 29, 182, 0, 87]
abbrev dktX1_hears_0 : List UInt8 := dkwX1_hears_0 ++ dktX1_hears_1
theorem dksX1_hears_0 : cX1_hears.data.toList.drop 0 = dktX1_hears_0 := by decide +kernel
theorem dksX1_hears_1 : cX1_hears.data.toList.drop 24 = dktX1_hears_1 := dk_seg dksX1_hears_0 24 rfl rfl
theorem dX1_hears_0 : decode cX1_hears 0 = .ok (.aload_n 0, 1) := dk_42 (dk_at dksX1_hears_0 0 rfl rfl)
theorem dX1_hears_1 : decode cX1_hears 1 = .ok (.invokevirtual 73, 3) := dk_182 0 73 (dk_at dksX1_hears_0 1 rfl rfl)
theorem dX1_hears_4 : decode cX1_hears 4 = .ok (.aload_n 0, 1) := dk_42 (dk_at dksX1_hears_0 4 rfl rfl)
theorem dX1_hears_5 : decode cX1_hears 5 = .ok (.aload_n 0, 1) := dk_42 (dk_at dksX1_hears_0 5 rfl rfl)
theorem dX1_hears_6 : decode cX1_hears 6 = .ok (.iload_n 1, 1) := dk_27 (dk_at dksX1_hears_0 6 rfl rfl)
theorem dX1_hears_7 : decode cX1_hears 7 = .ok (.invokevirtual 150, 3) := dk_182 0 150 (dk_at dksX1_hears_0 7 rfl rfl)
theorem dX1_hears_10 : decode cX1_hears 10 = .ok (.iload_n 2, 1) := dk_28 (dk_at dksX1_hears_0 10 rfl rfl)
theorem dX1_hears_11 : decode cX1_hears 11 = .ok (.invokevirtual 178, 3) := dk_182 0 178 (dk_at dksX1_hears_0 11 rfl rfl)
theorem dX1_hears_14 : decode cX1_hears 14 = .ok (.istore_n 3, 1) := dk_62 (dk_at dksX1_hears_0 14 rfl rfl)
theorem dX1_hears_15 : decode cX1_hears 15 = .ok (.iload_n 3, 1) := dk_29 (dk_at dksX1_hears_0 15 rfl rfl)
theorem dX1_hears_16 : decode cX1_hears 16 = .ok (.ifCond .eq 11, 3) := dk_153 0 11 (dk_at dksX1_hears_0 16 rfl rfl)
theorem dX1_hears_19 : decode cX1_hears 19 = .ok (.aload_n 0, 1) := dk_42 (dk_at dksX1_hears_0 19 rfl rfl)
theorem dX1_hears_20 : decode cX1_hears 20 = .ok (.iload_n 3, 1) := dk_29 (dk_at dksX1_hears_0 20 rfl rfl)
theorem dX1_hears_21 : decode cX1_hears 21 = .ok (.invokevirtual 87, 3) := dk_182 0 87 (dk_at dksX1_hears_0 21 rfl rfl)
theorem dX1_hears_24 : decode cX1_hears 24 = .ok (.goto 13, 3) := dk_167 0 13 (dk_at dksX1_hears_1 0 rfl rfl)
theorem dX1_hears_27 : decode cX1_hears 27 = .ok (.aload_n 0, 1) := dk_42 (dk_at dksX1_hears_1 3 rfl rfl)
theorem dX1_hears_28 : decode cX1_hears 28 = .ok (.getfield 33, 3) := dk_180 0 33 (dk_at dksX1_hears_1 4 rfl rfl)
theorem dX1_hears_31 : decode cX1_hears 31 = .ok (.iload_n 1, 1) := dk_27 (dk_at dksX1_hears_1 7 rfl rfl)
theorem dX1_hears_32 : decode cX1_hears 32 = .ok (.iload_n 2, 1) := dk_28 (dk_at dksX1_hears_1 8 rfl rfl)
theorem dX1_hears_33 : decode cX1_hears 33 = .ok (.iconst 0, 1) := dk_3 (dk_at dksX1_hears_1 9 rfl rfl)
theorem dX1_hears_34 : decode cX1_hears 34 = .ok (.invokevirtual 189, 3) := dk_182 0 189 (dk_at dksX1_hears_1 10 rfl rfl)
theorem dX1_hears_37 : decode cX1_hears 37 = .ok (.ireturn, 1) := dk_172 (dk_at dksX1_hears_1 13 rfl rfl)
abbrev cX1_off : ByteArray := prog_1_method_27_code
def yX1_off : MethodName := ⟨RX1, "off", "(II)I"⟩
def dkwX1_off_3 : List UInt8 := [184, 0, 192, 172]
abbrev dktX1_off_3 : List UInt8 := dkwX1_off_3 ++ []
def dkwX1_off_2 : List UInt8 := [27, 42, 180, 0, 33, 27, 182, 0, 182, 28, 182, 0, 185, 133, 101, 42, 180, 0, 98, 180, 0, 126]
abbrev dktX1_off_2 : List UInt8 := dkwX1_off_2 ++ dktX1_off_3
def dkwX1_off_1 : List UInt8 := [172, 42, 180, 0, 33, 180, 0, 137, 42, 180, 0, 33, 27, 28, 3, 182, 0, 189, 46, 133, 42, 180, 0, 33]
abbrev dktX1_off_1 : List UInt8 := dkwX1_off_1 ++ dktX1_off_2
def dkwX1_off_0 : List UInt8 := [42, 182, 0, 73, 42, 42, 27, 182, 0, 150, 28, 182, 0, 178, 62, 29, 153, 0, 9, 42, 29, 182, 0, 87]
abbrev dktX1_off_0 : List UInt8 := dkwX1_off_0 ++ dktX1_off_1
theorem dksX1_off_0 : cX1_off.data.toList.drop 0 = dktX1_off_0 := by decide +kernel
theorem dksX1_off_1 : cX1_off.data.toList.drop 24 = dktX1_off_1 := dk_seg dksX1_off_0 24 rfl rfl
theorem dksX1_off_2 : cX1_off.data.toList.drop 48 = dktX1_off_2 := dk_seg dksX1_off_1 24 rfl rfl
theorem dksX1_off_3 : cX1_off.data.toList.drop 70 = dktX1_off_3 := dk_seg dksX1_off_2 22 rfl rfl
theorem dX1_off_0 : decode cX1_off 0 = .ok (.aload_n 0, 1) := dk_42 (dk_at dksX1_off_0 0 rfl rfl)
theorem dX1_off_1 : decode cX1_off 1 = .ok (.invokevirtual 73, 3) := dk_182 0 73 (dk_at dksX1_off_0 1 rfl rfl)
theorem dX1_off_4 : decode cX1_off 4 = .ok (.aload_n 0, 1) := dk_42 (dk_at dksX1_off_0 4 rfl rfl)
theorem dX1_off_5 : decode cX1_off 5 = .ok (.aload_n 0, 1) := dk_42 (dk_at dksX1_off_0 5 rfl rfl)
theorem dX1_off_6 : decode cX1_off 6 = .ok (.iload_n 1, 1) := dk_27 (dk_at dksX1_off_0 6 rfl rfl)
theorem dX1_off_7 : decode cX1_off 7 = .ok (.invokevirtual 150, 3) := dk_182 0 150 (dk_at dksX1_off_0 7 rfl rfl)
theorem dX1_off_10 : decode cX1_off 10 = .ok (.iload_n 2, 1) := dk_28 (dk_at dksX1_off_0 10 rfl rfl)
theorem dX1_off_11 : decode cX1_off 11 = .ok (.invokevirtual 178, 3) := dk_182 0 178 (dk_at dksX1_off_0 11 rfl rfl)
theorem dX1_off_14 : decode cX1_off 14 = .ok (.istore_n 3, 1) := dk_62 (dk_at dksX1_off_0 14 rfl rfl)
theorem dX1_off_15 : decode cX1_off 15 = .ok (.iload_n 3, 1) := dk_29 (dk_at dksX1_off_0 15 rfl rfl)
theorem dX1_off_16 : decode cX1_off 16 = .ok (.ifCond .eq 9, 3) := dk_153 0 9 (dk_at dksX1_off_0 16 rfl rfl)
theorem dX1_off_19 : decode cX1_off 19 = .ok (.aload_n 0, 1) := dk_42 (dk_at dksX1_off_0 19 rfl rfl)
theorem dX1_off_20 : decode cX1_off 20 = .ok (.iload_n 3, 1) := dk_29 (dk_at dksX1_off_0 20 rfl rfl)
theorem dX1_off_21 : decode cX1_off 21 = .ok (.invokevirtual 87, 3) := dk_182 0 87 (dk_at dksX1_off_0 21 rfl rfl)
theorem dX1_off_24 : decode cX1_off 24 = .ok (.ireturn, 1) := dk_172 (dk_at dksX1_off_1 0 rfl rfl)
theorem dX1_off_25 : decode cX1_off 25 = .ok (.aload_n 0, 1) := dk_42 (dk_at dksX1_off_1 1 rfl rfl)
theorem dX1_off_26 : decode cX1_off 26 = .ok (.getfield 33, 3) := dk_180 0 33 (dk_at dksX1_off_1 2 rfl rfl)
theorem dX1_off_29 : decode cX1_off 29 = .ok (.getfield 137, 3) := dk_180 0 137 (dk_at dksX1_off_1 5 rfl rfl)
theorem dX1_off_32 : decode cX1_off 32 = .ok (.aload_n 0, 1) := dk_42 (dk_at dksX1_off_1 8 rfl rfl)
theorem dX1_off_33 : decode cX1_off 33 = .ok (.getfield 33, 3) := dk_180 0 33 (dk_at dksX1_off_1 9 rfl rfl)
theorem dX1_off_36 : decode cX1_off 36 = .ok (.iload_n 1, 1) := dk_27 (dk_at dksX1_off_1 12 rfl rfl)
theorem dX1_off_37 : decode cX1_off 37 = .ok (.iload_n 2, 1) := dk_28 (dk_at dksX1_off_1 13 rfl rfl)
theorem dX1_off_38 : decode cX1_off 38 = .ok (.iconst 0, 1) := dk_3 (dk_at dksX1_off_1 14 rfl rfl)
theorem dX1_off_39 : decode cX1_off 39 = .ok (.invokevirtual 189, 3) := dk_182 0 189 (dk_at dksX1_off_1 15 rfl rfl)
theorem dX1_off_42 : decode cX1_off 42 = .ok (.iaload, 1) := dk_46 (dk_at dksX1_off_1 18 rfl rfl)
theorem dX1_off_43 : decode cX1_off 43 = .ok (.i2l, 1) := dk_133 (dk_at dksX1_off_1 19 rfl rfl)
theorem dX1_off_44 : decode cX1_off 44 = .ok (.aload_n 0, 1) := dk_42 (dk_at dksX1_off_1 20 rfl rfl)
theorem dX1_off_45 : decode cX1_off 45 = .ok (.getfield 33, 3) := dk_180 0 33 (dk_at dksX1_off_1 21 rfl rfl)
theorem dX1_off_48 : decode cX1_off 48 = .ok (.iload_n 1, 1) := dk_27 (dk_at dksX1_off_2 0 rfl rfl)
theorem dX1_off_49 : decode cX1_off 49 = .ok (.aload_n 0, 1) := dk_42 (dk_at dksX1_off_2 1 rfl rfl)
theorem dX1_off_50 : decode cX1_off 50 = .ok (.getfield 33, 3) := dk_180 0 33 (dk_at dksX1_off_2 2 rfl rfl)
theorem dX1_off_53 : decode cX1_off 53 = .ok (.iload_n 1, 1) := dk_27 (dk_at dksX1_off_2 5 rfl rfl)
theorem dX1_off_54 : decode cX1_off 54 = .ok (.invokevirtual 182, 3) := dk_182 0 182 (dk_at dksX1_off_2 6 rfl rfl)
theorem dX1_off_57 : decode cX1_off 57 = .ok (.iload_n 2, 1) := dk_28 (dk_at dksX1_off_2 9 rfl rfl)
theorem dX1_off_58 : decode cX1_off 58 = .ok (.invokevirtual 185, 3) := dk_182 0 185 (dk_at dksX1_off_2 10 rfl rfl)
theorem dX1_off_61 : decode cX1_off 61 = .ok (.i2l, 1) := dk_133 (dk_at dksX1_off_2 13 rfl rfl)
theorem dX1_off_62 : decode cX1_off 62 = .ok (.lsub, 1) := dk_101 (dk_at dksX1_off_2 14 rfl rfl)
theorem dX1_off_63 : decode cX1_off 63 = .ok (.aload_n 0, 1) := dk_42 (dk_at dksX1_off_2 15 rfl rfl)
theorem dX1_off_64 : decode cX1_off 64 = .ok (.getfield 98, 3) := dk_180 0 98 (dk_at dksX1_off_2 16 rfl rfl)
theorem dX1_off_67 : decode cX1_off 67 = .ok (.getfield 126, 3) := dk_180 0 126 (dk_at dksX1_off_2 19 rfl rfl)
theorem dX1_off_70 : decode cX1_off 70 = .ok (.invokestatic 192, 3) := dk_184 0 192 (dk_at dksX1_off_3 0 rfl rfl)
theorem dX1_off_73 : decode cX1_off 73 = .ok (.ireturn, 1) := dk_172 (dk_at dksX1_off_3 3 rfl rfl)
abbrev cX1_right : ByteArray := prog_1_method_28_code
def yX1_right : MethodName := ⟨RX1, "right", "(I)I"⟩
def dkwX1_right_1 : List UInt8 := [153, 0, 11, 42, 28, 182, 0, 87, 167, 0, 11, 42, 180, 0, 33, 27, 182, 0, 196, 172]
abbrev dktX1_right_1 : List UInt8 := dkwX1_right_1 ++ []
def dkwX1_right_0 : List UInt8 := [42, 182, 0, 73, 42, 42, 180, 0, 98, 198, 0, 7, 4, 167, 0, 4, 3, 27, 182, 0, 178, 61, 28]
abbrev dktX1_right_0 : List UInt8 := dkwX1_right_0 ++ dktX1_right_1
theorem dksX1_right_0 : cX1_right.data.toList.drop 0 = dktX1_right_0 := by decide +kernel
theorem dksX1_right_1 : cX1_right.data.toList.drop 23 = dktX1_right_1 := dk_seg dksX1_right_0 23 rfl rfl
theorem dX1_right_0 : decode cX1_right 0 = .ok (.aload_n 0, 1) := dk_42 (dk_at dksX1_right_0 0 rfl rfl)
theorem dX1_right_1 : decode cX1_right 1 = .ok (.invokevirtual 73, 3) := dk_182 0 73 (dk_at dksX1_right_0 1 rfl rfl)
theorem dX1_right_4 : decode cX1_right 4 = .ok (.aload_n 0, 1) := dk_42 (dk_at dksX1_right_0 4 rfl rfl)
theorem dX1_right_5 : decode cX1_right 5 = .ok (.aload_n 0, 1) := dk_42 (dk_at dksX1_right_0 5 rfl rfl)
theorem dX1_right_6 : decode cX1_right 6 = .ok (.getfield 98, 3) := dk_180 0 98 (dk_at dksX1_right_0 6 rfl rfl)
theorem dX1_right_9 : decode cX1_right 9 = .ok (.ifnull 7, 3) := dk_198 0 7 (dk_at dksX1_right_0 9 rfl rfl)
theorem dX1_right_12 : decode cX1_right 12 = .ok (.iconst 1, 1) := dk_4 (dk_at dksX1_right_0 12 rfl rfl)
theorem dX1_right_13 : decode cX1_right 13 = .ok (.goto 4, 3) := dk_167 0 4 (dk_at dksX1_right_0 13 rfl rfl)
theorem dX1_right_16 : decode cX1_right 16 = .ok (.iconst 0, 1) := dk_3 (dk_at dksX1_right_0 16 rfl rfl)
theorem dX1_right_17 : decode cX1_right 17 = .ok (.iload_n 1, 1) := dk_27 (dk_at dksX1_right_0 17 rfl rfl)
theorem dX1_right_18 : decode cX1_right 18 = .ok (.invokevirtual 178, 3) := dk_182 0 178 (dk_at dksX1_right_0 18 rfl rfl)
theorem dX1_right_21 : decode cX1_right 21 = .ok (.istore_n 2, 1) := dk_61 (dk_at dksX1_right_0 21 rfl rfl)
theorem dX1_right_22 : decode cX1_right 22 = .ok (.iload_n 2, 1) := dk_28 (dk_at dksX1_right_0 22 rfl rfl)
theorem dX1_right_23 : decode cX1_right 23 = .ok (.ifCond .eq 11, 3) := dk_153 0 11 (dk_at dksX1_right_1 0 rfl rfl)
theorem dX1_right_26 : decode cX1_right 26 = .ok (.aload_n 0, 1) := dk_42 (dk_at dksX1_right_1 3 rfl rfl)
theorem dX1_right_27 : decode cX1_right 27 = .ok (.iload_n 2, 1) := dk_28 (dk_at dksX1_right_1 4 rfl rfl)
theorem dX1_right_28 : decode cX1_right 28 = .ok (.invokevirtual 87, 3) := dk_182 0 87 (dk_at dksX1_right_1 5 rfl rfl)
theorem dX1_right_31 : decode cX1_right 31 = .ok (.goto 11, 3) := dk_167 0 11 (dk_at dksX1_right_1 8 rfl rfl)
theorem dX1_right_34 : decode cX1_right 34 = .ok (.aload_n 0, 1) := dk_42 (dk_at dksX1_right_1 11 rfl rfl)
theorem dX1_right_35 : decode cX1_right 35 = .ok (.getfield 33, 3) := dk_180 0 33 (dk_at dksX1_right_1 12 rfl rfl)
theorem dX1_right_38 : decode cX1_right 38 = .ok (.iload_n 1, 1) := dk_27 (dk_at dksX1_right_1 15 rfl rfl)
theorem dX1_right_39 : decode cX1_right 39 = .ok (.invokevirtual 196, 3) := dk_182 0 196 (dk_at dksX1_right_1 16 rfl rfl)
theorem dX1_right_42 : decode cX1_right 42 = .ok (.ireturn, 1) := dk_172 (dk_at dksX1_right_1 19 rfl rfl)
abbrev cX1_medium : ByteArray := prog_1_method_29_code
def yX1_medium : MethodName := ⟨RX1, "medium", "(I)I"⟩
def dkwX1_medium_3 : List UInt8 := [182, 0, 146, 184, 0, 199, 164, 0, 6, 21, 4, 62, 132, 4, 1, 167, 255, 210, 29, 172]
abbrev dktX1_medium_3 : List UInt8 := dkwX1_medium_3 ++ []
def dkwX1_medium_2 : List UInt8 := [162, 0, 40, 42, 180, 0, 33, 21, 4, 27, 182, 0, 146, 184, 0, 199, 42, 180, 0, 33, 29, 27]
abbrev dktX1_medium_2 : List UInt8 := dkwX1_medium_2 ++ dktX1_medium_3
def dkwX1_medium_1 : List UInt8 := [153, 0, 9, 42, 28, 182, 0, 87, 172, 3, 62, 4, 54, 4, 21, 4, 42, 180, 0, 98, 180, 0, 118]
abbrev dktX1_medium_1 : List UInt8 := dkwX1_medium_1 ++ dktX1_medium_2
def dkwX1_medium_0 : List UInt8 := [42, 182, 0, 73, 42, 42, 180, 0, 98, 198, 0, 7, 4, 167, 0, 4, 3, 27, 182, 0, 178, 61, 28]
abbrev dktX1_medium_0 : List UInt8 := dkwX1_medium_0 ++ dktX1_medium_1
theorem dksX1_medium_0 : cX1_medium.data.toList.drop 0 = dktX1_medium_0 := by decide +kernel
theorem dksX1_medium_1 : cX1_medium.data.toList.drop 23 = dktX1_medium_1 := dk_seg dksX1_medium_0 23 rfl rfl
theorem dksX1_medium_2 : cX1_medium.data.toList.drop 46 = dktX1_medium_2 := dk_seg dksX1_medium_1 23 rfl rfl
theorem dksX1_medium_3 : cX1_medium.data.toList.drop 68 = dktX1_medium_3 := dk_seg dksX1_medium_2 22 rfl rfl
theorem dX1_medium_0 : decode cX1_medium 0 = .ok (.aload_n 0, 1) := dk_42 (dk_at dksX1_medium_0 0 rfl rfl)
theorem dX1_medium_1 : decode cX1_medium 1 = .ok (.invokevirtual 73, 3) := dk_182 0 73 (dk_at dksX1_medium_0 1 rfl rfl)
theorem dX1_medium_4 : decode cX1_medium 4 = .ok (.aload_n 0, 1) := dk_42 (dk_at dksX1_medium_0 4 rfl rfl)
theorem dX1_medium_5 : decode cX1_medium 5 = .ok (.aload_n 0, 1) := dk_42 (dk_at dksX1_medium_0 5 rfl rfl)
theorem dX1_medium_6 : decode cX1_medium 6 = .ok (.getfield 98, 3) := dk_180 0 98 (dk_at dksX1_medium_0 6 rfl rfl)
theorem dX1_medium_9 : decode cX1_medium 9 = .ok (.ifnull 7, 3) := dk_198 0 7 (dk_at dksX1_medium_0 9 rfl rfl)
theorem dX1_medium_12 : decode cX1_medium 12 = .ok (.iconst 1, 1) := dk_4 (dk_at dksX1_medium_0 12 rfl rfl)
theorem dX1_medium_13 : decode cX1_medium 13 = .ok (.goto 4, 3) := dk_167 0 4 (dk_at dksX1_medium_0 13 rfl rfl)
theorem dX1_medium_16 : decode cX1_medium 16 = .ok (.iconst 0, 1) := dk_3 (dk_at dksX1_medium_0 16 rfl rfl)
theorem dX1_medium_17 : decode cX1_medium 17 = .ok (.iload_n 1, 1) := dk_27 (dk_at dksX1_medium_0 17 rfl rfl)
theorem dX1_medium_18 : decode cX1_medium 18 = .ok (.invokevirtual 178, 3) := dk_182 0 178 (dk_at dksX1_medium_0 18 rfl rfl)
theorem dX1_medium_21 : decode cX1_medium 21 = .ok (.istore_n 2, 1) := dk_61 (dk_at dksX1_medium_0 21 rfl rfl)
theorem dX1_medium_22 : decode cX1_medium 22 = .ok (.iload_n 2, 1) := dk_28 (dk_at dksX1_medium_0 22 rfl rfl)
theorem dX1_medium_23 : decode cX1_medium 23 = .ok (.ifCond .eq 9, 3) := dk_153 0 9 (dk_at dksX1_medium_1 0 rfl rfl)
theorem dX1_medium_26 : decode cX1_medium 26 = .ok (.aload_n 0, 1) := dk_42 (dk_at dksX1_medium_1 3 rfl rfl)
theorem dX1_medium_27 : decode cX1_medium 27 = .ok (.iload_n 2, 1) := dk_28 (dk_at dksX1_medium_1 4 rfl rfl)
theorem dX1_medium_28 : decode cX1_medium 28 = .ok (.invokevirtual 87, 3) := dk_182 0 87 (dk_at dksX1_medium_1 5 rfl rfl)
theorem dX1_medium_31 : decode cX1_medium 31 = .ok (.ireturn, 1) := dk_172 (dk_at dksX1_medium_1 8 rfl rfl)
theorem dX1_medium_32 : decode cX1_medium 32 = .ok (.iconst 0, 1) := dk_3 (dk_at dksX1_medium_1 9 rfl rfl)
theorem dX1_medium_33 : decode cX1_medium 33 = .ok (.istore_n 3, 1) := dk_62 (dk_at dksX1_medium_1 10 rfl rfl)
theorem dX1_medium_34 : decode cX1_medium 34 = .ok (.iconst 1, 1) := dk_4 (dk_at dksX1_medium_1 11 rfl rfl)
theorem dX1_medium_35 : decode cX1_medium 35 = .ok (.istore 4, 2) := dk_54 4 (dk_at dksX1_medium_1 12 rfl rfl)
theorem dX1_medium_37 : decode cX1_medium 37 = .ok (.iload 4, 2) := dk_21 4 (dk_at dksX1_medium_1 14 rfl rfl)
theorem dX1_medium_39 : decode cX1_medium 39 = .ok (.aload_n 0, 1) := dk_42 (dk_at dksX1_medium_1 16 rfl rfl)
theorem dX1_medium_40 : decode cX1_medium 40 = .ok (.getfield 98, 3) := dk_180 0 98 (dk_at dksX1_medium_1 17 rfl rfl)
theorem dX1_medium_43 : decode cX1_medium 43 = .ok (.getfield 118, 3) := dk_180 0 118 (dk_at dksX1_medium_1 20 rfl rfl)
theorem dX1_medium_46 : decode cX1_medium 46 = .ok (.if_icmp .ge 40, 3) := dk_162 0 40 (dk_at dksX1_medium_2 0 rfl rfl)
theorem dX1_medium_49 : decode cX1_medium 49 = .ok (.aload_n 0, 1) := dk_42 (dk_at dksX1_medium_2 3 rfl rfl)
theorem dX1_medium_50 : decode cX1_medium 50 = .ok (.getfield 33, 3) := dk_180 0 33 (dk_at dksX1_medium_2 4 rfl rfl)
theorem dX1_medium_53 : decode cX1_medium 53 = .ok (.iload 4, 2) := dk_21 4 (dk_at dksX1_medium_2 7 rfl rfl)
theorem dX1_medium_55 : decode cX1_medium 55 = .ok (.iload_n 1, 1) := dk_27 (dk_at dksX1_medium_2 9 rfl rfl)
theorem dX1_medium_56 : decode cX1_medium 56 = .ok (.invokevirtual 146, 3) := dk_182 0 146 (dk_at dksX1_medium_2 10 rfl rfl)
theorem dX1_medium_59 : decode cX1_medium 59 = .ok (.invokestatic 199, 3) := dk_184 0 199 (dk_at dksX1_medium_2 13 rfl rfl)
theorem dX1_medium_62 : decode cX1_medium 62 = .ok (.aload_n 0, 1) := dk_42 (dk_at dksX1_medium_2 16 rfl rfl)
theorem dX1_medium_63 : decode cX1_medium 63 = .ok (.getfield 33, 3) := dk_180 0 33 (dk_at dksX1_medium_2 17 rfl rfl)
theorem dX1_medium_66 : decode cX1_medium 66 = .ok (.iload_n 3, 1) := dk_29 (dk_at dksX1_medium_2 20 rfl rfl)
theorem dX1_medium_67 : decode cX1_medium 67 = .ok (.iload_n 1, 1) := dk_27 (dk_at dksX1_medium_2 21 rfl rfl)
theorem dX1_medium_68 : decode cX1_medium 68 = .ok (.invokevirtual 146, 3) := dk_182 0 146 (dk_at dksX1_medium_3 0 rfl rfl)
theorem dX1_medium_71 : decode cX1_medium 71 = .ok (.invokestatic 199, 3) := dk_184 0 199 (dk_at dksX1_medium_3 3 rfl rfl)
theorem dX1_medium_74 : decode cX1_medium 74 = .ok (.if_icmp .le 6, 3) := dk_164 0 6 (dk_at dksX1_medium_3 6 rfl rfl)
theorem dX1_medium_77 : decode cX1_medium 77 = .ok (.iload 4, 2) := dk_21 4 (dk_at dksX1_medium_3 9 rfl rfl)
theorem dX1_medium_79 : decode cX1_medium 79 = .ok (.istore_n 3, 1) := dk_62 (dk_at dksX1_medium_3 11 rfl rfl)
theorem dX1_medium_80 : decode cX1_medium 80 = .ok (.iinc 4 1, 3) := dk_132 4 1 (dk_at dksX1_medium_3 12 rfl rfl)
theorem dX1_medium_83 : decode cX1_medium 83 = .ok (.goto (-46), 3) := dk_167 255 210 (dk_at dksX1_medium_3 15 rfl rfl)
theorem dX1_medium_86 : decode cX1_medium 86 = .ok (.iload_n 3, 1) := dk_29 (dk_at dksX1_medium_3 18 rfl rfl)
theorem dX1_medium_87 : decode cX1_medium 87 = .ok (.ireturn, 1) := dk_172 (dk_at dksX1_medium_3 19 rfl rfl)
abbrev cX1_ones : ByteArray := prog_1_method_3_code
def yX1_ones : MethodName := ⟨RX1, "ones", "(I)I"⟩
def dkwX1_ones_0 : List UInt8 := [3, 60, 26, 61, 28, 153, 0, 15, 132, 1, 1, 28, 28, 4, 100, 126, 61, 167, 255, 243, 27, 172]
abbrev dktX1_ones_0 : List UInt8 := dkwX1_ones_0 ++ []
theorem dksX1_ones_0 : cX1_ones.data.toList.drop 0 = dktX1_ones_0 := by decide +kernel
theorem dX1_ones_0 : decode cX1_ones 0 = .ok (.iconst 0, 1) := dk_3 (dk_at dksX1_ones_0 0 rfl rfl)
theorem dX1_ones_1 : decode cX1_ones 1 = .ok (.istore_n 1, 1) := dk_60 (dk_at dksX1_ones_0 1 rfl rfl)
theorem dX1_ones_2 : decode cX1_ones 2 = .ok (.iload_n 0, 1) := dk_26 (dk_at dksX1_ones_0 2 rfl rfl)
theorem dX1_ones_3 : decode cX1_ones 3 = .ok (.istore_n 2, 1) := dk_61 (dk_at dksX1_ones_0 3 rfl rfl)
theorem dX1_ones_4 : decode cX1_ones 4 = .ok (.iload_n 2, 1) := dk_28 (dk_at dksX1_ones_0 4 rfl rfl)
theorem dX1_ones_5 : decode cX1_ones 5 = .ok (.ifCond .eq 15, 3) := dk_153 0 15 (dk_at dksX1_ones_0 5 rfl rfl)
theorem dX1_ones_8 : decode cX1_ones 8 = .ok (.iinc 1 1, 3) := dk_132 1 1 (dk_at dksX1_ones_0 8 rfl rfl)
theorem dX1_ones_11 : decode cX1_ones 11 = .ok (.iload_n 2, 1) := dk_28 (dk_at dksX1_ones_0 11 rfl rfl)
theorem dX1_ones_12 : decode cX1_ones 12 = .ok (.iload_n 2, 1) := dk_28 (dk_at dksX1_ones_0 12 rfl rfl)
theorem dX1_ones_13 : decode cX1_ones 13 = .ok (.iconst 1, 1) := dk_4 (dk_at dksX1_ones_0 13 rfl rfl)
theorem dX1_ones_14 : decode cX1_ones 14 = .ok (.isub, 1) := dk_100 (dk_at dksX1_ones_0 14 rfl rfl)
theorem dX1_ones_15 : decode cX1_ones 15 = .ok (.iand, 1) := dk_126 (dk_at dksX1_ones_0 15 rfl rfl)
theorem dX1_ones_16 : decode cX1_ones 16 = .ok (.istore_n 2, 1) := dk_61 (dk_at dksX1_ones_0 16 rfl rfl)
theorem dX1_ones_17 : decode cX1_ones 17 = .ok (.goto (-13), 3) := dk_167 255 243 (dk_at dksX1_ones_0 17 rfl rfl)
theorem dX1_ones_20 : decode cX1_ones 20 = .ok (.iload_n 1, 1) := dk_27 (dk_at dksX1_ones_0 20 rfl rfl)
theorem dX1_ones_21 : decode cX1_ones 21 = .ok (.ireturn, 1) := dk_172 (dk_at dksX1_ones_0 21 rfl rfl)
abbrev cX1_silent : ByteArray := prog_1_method_30_code
def yX1_silent : MethodName := ⟨RX1, "silent", "(I)I"⟩
def dkwX1_silent_3 : List UInt8 := [3, 128, 62, 132, 4, 1, 167, 255, 217, 29, 172]
abbrev dktX1_silent_3 : List UInt8 := dkwX1_silent_3 ++ []
def dkwX1_silent_2 : List UInt8 := [162, 0, 33, 29, 42, 180, 0, 33, 21, 4, 27, 182, 0, 146, 154, 0, 10, 4, 21, 4, 120, 167, 0, 4]
abbrev dktX1_silent_2 : List UInt8 := dkwX1_silent_2 ++ dktX1_silent_3
def dkwX1_silent_1 : List UInt8 := [153, 0, 9, 42, 28, 182, 0, 87, 172, 3, 62, 3, 54, 4, 21, 4, 42, 180, 0, 98, 180, 0, 118]
abbrev dktX1_silent_1 : List UInt8 := dkwX1_silent_1 ++ dktX1_silent_2
def dkwX1_silent_0 : List UInt8 := [42, 182, 0, 73, 42, 42, 180, 0, 98, 198, 0, 7, 4, 167, 0, 4, 3, 27, 182, 0, 178, 61, 28]
abbrev dktX1_silent_0 : List UInt8 := dkwX1_silent_0 ++ dktX1_silent_1
theorem dksX1_silent_0 : cX1_silent.data.toList.drop 0 = dktX1_silent_0 := by decide +kernel
theorem dksX1_silent_1 : cX1_silent.data.toList.drop 23 = dktX1_silent_1 := dk_seg dksX1_silent_0 23 rfl rfl
theorem dksX1_silent_2 : cX1_silent.data.toList.drop 46 = dktX1_silent_2 := dk_seg dksX1_silent_1 23 rfl rfl
theorem dksX1_silent_3 : cX1_silent.data.toList.drop 70 = dktX1_silent_3 := dk_seg dksX1_silent_2 24 rfl rfl
theorem dX1_silent_0 : decode cX1_silent 0 = .ok (.aload_n 0, 1) := dk_42 (dk_at dksX1_silent_0 0 rfl rfl)
theorem dX1_silent_1 : decode cX1_silent 1 = .ok (.invokevirtual 73, 3) := dk_182 0 73 (dk_at dksX1_silent_0 1 rfl rfl)
theorem dX1_silent_4 : decode cX1_silent 4 = .ok (.aload_n 0, 1) := dk_42 (dk_at dksX1_silent_0 4 rfl rfl)
theorem dX1_silent_5 : decode cX1_silent 5 = .ok (.aload_n 0, 1) := dk_42 (dk_at dksX1_silent_0 5 rfl rfl)
theorem dX1_silent_6 : decode cX1_silent 6 = .ok (.getfield 98, 3) := dk_180 0 98 (dk_at dksX1_silent_0 6 rfl rfl)
theorem dX1_silent_9 : decode cX1_silent 9 = .ok (.ifnull 7, 3) := dk_198 0 7 (dk_at dksX1_silent_0 9 rfl rfl)
theorem dX1_silent_12 : decode cX1_silent 12 = .ok (.iconst 1, 1) := dk_4 (dk_at dksX1_silent_0 12 rfl rfl)
theorem dX1_silent_13 : decode cX1_silent 13 = .ok (.goto 4, 3) := dk_167 0 4 (dk_at dksX1_silent_0 13 rfl rfl)
theorem dX1_silent_16 : decode cX1_silent 16 = .ok (.iconst 0, 1) := dk_3 (dk_at dksX1_silent_0 16 rfl rfl)
theorem dX1_silent_17 : decode cX1_silent 17 = .ok (.iload_n 1, 1) := dk_27 (dk_at dksX1_silent_0 17 rfl rfl)
theorem dX1_silent_18 : decode cX1_silent 18 = .ok (.invokevirtual 178, 3) := dk_182 0 178 (dk_at dksX1_silent_0 18 rfl rfl)
theorem dX1_silent_21 : decode cX1_silent 21 = .ok (.istore_n 2, 1) := dk_61 (dk_at dksX1_silent_0 21 rfl rfl)
theorem dX1_silent_22 : decode cX1_silent 22 = .ok (.iload_n 2, 1) := dk_28 (dk_at dksX1_silent_0 22 rfl rfl)
theorem dX1_silent_23 : decode cX1_silent 23 = .ok (.ifCond .eq 9, 3) := dk_153 0 9 (dk_at dksX1_silent_1 0 rfl rfl)
theorem dX1_silent_26 : decode cX1_silent 26 = .ok (.aload_n 0, 1) := dk_42 (dk_at dksX1_silent_1 3 rfl rfl)
theorem dX1_silent_27 : decode cX1_silent 27 = .ok (.iload_n 2, 1) := dk_28 (dk_at dksX1_silent_1 4 rfl rfl)
theorem dX1_silent_28 : decode cX1_silent 28 = .ok (.invokevirtual 87, 3) := dk_182 0 87 (dk_at dksX1_silent_1 5 rfl rfl)
theorem dX1_silent_31 : decode cX1_silent 31 = .ok (.ireturn, 1) := dk_172 (dk_at dksX1_silent_1 8 rfl rfl)
theorem dX1_silent_32 : decode cX1_silent 32 = .ok (.iconst 0, 1) := dk_3 (dk_at dksX1_silent_1 9 rfl rfl)
theorem dX1_silent_33 : decode cX1_silent 33 = .ok (.istore_n 3, 1) := dk_62 (dk_at dksX1_silent_1 10 rfl rfl)
theorem dX1_silent_34 : decode cX1_silent 34 = .ok (.iconst 0, 1) := dk_3 (dk_at dksX1_silent_1 11 rfl rfl)
theorem dX1_silent_35 : decode cX1_silent 35 = .ok (.istore 4, 2) := dk_54 4 (dk_at dksX1_silent_1 12 rfl rfl)
theorem dX1_silent_37 : decode cX1_silent 37 = .ok (.iload 4, 2) := dk_21 4 (dk_at dksX1_silent_1 14 rfl rfl)
theorem dX1_silent_39 : decode cX1_silent 39 = .ok (.aload_n 0, 1) := dk_42 (dk_at dksX1_silent_1 16 rfl rfl)
theorem dX1_silent_40 : decode cX1_silent 40 = .ok (.getfield 98, 3) := dk_180 0 98 (dk_at dksX1_silent_1 17 rfl rfl)
theorem dX1_silent_43 : decode cX1_silent 43 = .ok (.getfield 118, 3) := dk_180 0 118 (dk_at dksX1_silent_1 20 rfl rfl)
theorem dX1_silent_46 : decode cX1_silent 46 = .ok (.if_icmp .ge 33, 3) := dk_162 0 33 (dk_at dksX1_silent_2 0 rfl rfl)
theorem dX1_silent_49 : decode cX1_silent 49 = .ok (.iload_n 3, 1) := dk_29 (dk_at dksX1_silent_2 3 rfl rfl)
theorem dX1_silent_50 : decode cX1_silent 50 = .ok (.aload_n 0, 1) := dk_42 (dk_at dksX1_silent_2 4 rfl rfl)
theorem dX1_silent_51 : decode cX1_silent 51 = .ok (.getfield 33, 3) := dk_180 0 33 (dk_at dksX1_silent_2 5 rfl rfl)
theorem dX1_silent_54 : decode cX1_silent 54 = .ok (.iload 4, 2) := dk_21 4 (dk_at dksX1_silent_2 8 rfl rfl)
theorem dX1_silent_56 : decode cX1_silent 56 = .ok (.iload_n 1, 1) := dk_27 (dk_at dksX1_silent_2 10 rfl rfl)
theorem dX1_silent_57 : decode cX1_silent 57 = .ok (.invokevirtual 146, 3) := dk_182 0 146 (dk_at dksX1_silent_2 11 rfl rfl)
theorem dX1_silent_60 : decode cX1_silent 60 = .ok (.ifCond .ne 10, 3) := dk_154 0 10 (dk_at dksX1_silent_2 14 rfl rfl)
theorem dX1_silent_63 : decode cX1_silent 63 = .ok (.iconst 1, 1) := dk_4 (dk_at dksX1_silent_2 17 rfl rfl)
theorem dX1_silent_64 : decode cX1_silent 64 = .ok (.iload 4, 2) := dk_21 4 (dk_at dksX1_silent_2 18 rfl rfl)
theorem dX1_silent_66 : decode cX1_silent 66 = .ok (.ishl, 1) := dk_120 (dk_at dksX1_silent_2 20 rfl rfl)
theorem dX1_silent_67 : decode cX1_silent 67 = .ok (.goto 4, 3) := dk_167 0 4 (dk_at dksX1_silent_2 21 rfl rfl)
theorem dX1_silent_70 : decode cX1_silent 70 = .ok (.iconst 0, 1) := dk_3 (dk_at dksX1_silent_3 0 rfl rfl)
theorem dX1_silent_71 : decode cX1_silent 71 = .ok (.ior, 1) := dk_128 (dk_at dksX1_silent_3 1 rfl rfl)
theorem dX1_silent_72 : decode cX1_silent 72 = .ok (.istore_n 3, 1) := dk_62 (dk_at dksX1_silent_3 2 rfl rfl)
theorem dX1_silent_73 : decode cX1_silent 73 = .ok (.iinc 4 1, 3) := dk_132 4 1 (dk_at dksX1_silent_3 3 rfl rfl)
theorem dX1_silent_76 : decode cX1_silent 76 = .ok (.goto (-39), 3) := dk_167 255 217 (dk_at dksX1_silent_3 6 rfl rfl)
theorem dX1_silent_79 : decode cX1_silent 79 = .ok (.iload_n 3, 1) := dk_29 (dk_at dksX1_silent_3 9 rfl rfl)
theorem dX1_silent_80 : decode cX1_silent 80 = .ok (.ireturn, 1) := dk_172 (dk_at dksX1_silent_3 10 rfl rfl)
abbrev cX1_rightFrom : ByteArray := prog_1_method_31_code
def yX1_rightFrom : MethodName := ⟨RX1, "rightFrom", "(II)I"⟩
def dkwX1_rightFrom_2 : List UInt8 := [153, 0, 6, 21, 4, 172, 132, 4, 1, 167, 255, 229, 16, 254, 172]
abbrev dktX1_rightFrom_2 : List UInt8 := dkwX1_rightFrom_2 ++ []
def dkwX1_rightFrom_1 : List UInt8 := [172, 28, 54, 4, 21, 4, 16, 99, 163, 0, 26, 42, 180, 0, 33, 27, 21, 4, 3, 182, 0, 202]
abbrev dktX1_rightFrom_1 : List UInt8 := dkwX1_rightFrom_1 ++ dktX1_rightFrom_2
def dkwX1_rightFrom_0 : List UInt8 := [42, 182, 0, 73, 42, 42, 27, 182, 0, 150, 28, 182, 0, 178, 62, 29, 153, 0, 9, 42, 29, 182, 0, 87]
abbrev dktX1_rightFrom_0 : List UInt8 := dkwX1_rightFrom_0 ++ dktX1_rightFrom_1
theorem dksX1_rightFrom_0 : cX1_rightFrom.data.toList.drop 0 = dktX1_rightFrom_0 := by decide +kernel
theorem dksX1_rightFrom_1 : cX1_rightFrom.data.toList.drop 24 = dktX1_rightFrom_1 := dk_seg dksX1_rightFrom_0 24 rfl rfl
theorem dksX1_rightFrom_2 : cX1_rightFrom.data.toList.drop 46 = dktX1_rightFrom_2 := dk_seg dksX1_rightFrom_1 22 rfl rfl
theorem dX1_rightFrom_0 : decode cX1_rightFrom 0 = .ok (.aload_n 0, 1) := dk_42 (dk_at dksX1_rightFrom_0 0 rfl rfl)
theorem dX1_rightFrom_1 : decode cX1_rightFrom 1 = .ok (.invokevirtual 73, 3) := dk_182 0 73 (dk_at dksX1_rightFrom_0 1 rfl rfl)
theorem dX1_rightFrom_4 : decode cX1_rightFrom 4 = .ok (.aload_n 0, 1) := dk_42 (dk_at dksX1_rightFrom_0 4 rfl rfl)
theorem dX1_rightFrom_5 : decode cX1_rightFrom 5 = .ok (.aload_n 0, 1) := dk_42 (dk_at dksX1_rightFrom_0 5 rfl rfl)
theorem dX1_rightFrom_6 : decode cX1_rightFrom 6 = .ok (.iload_n 1, 1) := dk_27 (dk_at dksX1_rightFrom_0 6 rfl rfl)
theorem dX1_rightFrom_7 : decode cX1_rightFrom 7 = .ok (.invokevirtual 150, 3) := dk_182 0 150 (dk_at dksX1_rightFrom_0 7 rfl rfl)
theorem dX1_rightFrom_10 : decode cX1_rightFrom 10 = .ok (.iload_n 2, 1) := dk_28 (dk_at dksX1_rightFrom_0 10 rfl rfl)
theorem dX1_rightFrom_11 : decode cX1_rightFrom 11 = .ok (.invokevirtual 178, 3) := dk_182 0 178 (dk_at dksX1_rightFrom_0 11 rfl rfl)
theorem dX1_rightFrom_14 : decode cX1_rightFrom 14 = .ok (.istore_n 3, 1) := dk_62 (dk_at dksX1_rightFrom_0 14 rfl rfl)
theorem dX1_rightFrom_15 : decode cX1_rightFrom 15 = .ok (.iload_n 3, 1) := dk_29 (dk_at dksX1_rightFrom_0 15 rfl rfl)
theorem dX1_rightFrom_16 : decode cX1_rightFrom 16 = .ok (.ifCond .eq 9, 3) := dk_153 0 9 (dk_at dksX1_rightFrom_0 16 rfl rfl)
theorem dX1_rightFrom_19 : decode cX1_rightFrom 19 = .ok (.aload_n 0, 1) := dk_42 (dk_at dksX1_rightFrom_0 19 rfl rfl)
theorem dX1_rightFrom_20 : decode cX1_rightFrom 20 = .ok (.iload_n 3, 1) := dk_29 (dk_at dksX1_rightFrom_0 20 rfl rfl)
theorem dX1_rightFrom_21 : decode cX1_rightFrom 21 = .ok (.invokevirtual 87, 3) := dk_182 0 87 (dk_at dksX1_rightFrom_0 21 rfl rfl)
theorem dX1_rightFrom_24 : decode cX1_rightFrom 24 = .ok (.ireturn, 1) := dk_172 (dk_at dksX1_rightFrom_1 0 rfl rfl)
theorem dX1_rightFrom_25 : decode cX1_rightFrom 25 = .ok (.iload_n 2, 1) := dk_28 (dk_at dksX1_rightFrom_1 1 rfl rfl)
theorem dX1_rightFrom_26 : decode cX1_rightFrom 26 = .ok (.istore 4, 2) := dk_54 4 (dk_at dksX1_rightFrom_1 2 rfl rfl)
theorem dX1_rightFrom_28 : decode cX1_rightFrom 28 = .ok (.iload 4, 2) := dk_21 4 (dk_at dksX1_rightFrom_1 4 rfl rfl)
theorem dX1_rightFrom_30 : decode cX1_rightFrom 30 = .ok (.bipush 99, 2) := dk_16 99 (dk_at dksX1_rightFrom_1 6 rfl rfl)
theorem dX1_rightFrom_32 : decode cX1_rightFrom 32 = .ok (.if_icmp .gt 26, 3) := dk_163 0 26 (dk_at dksX1_rightFrom_1 8 rfl rfl)
theorem dX1_rightFrom_35 : decode cX1_rightFrom 35 = .ok (.aload_n 0, 1) := dk_42 (dk_at dksX1_rightFrom_1 11 rfl rfl)
theorem dX1_rightFrom_36 : decode cX1_rightFrom 36 = .ok (.getfield 33, 3) := dk_180 0 33 (dk_at dksX1_rightFrom_1 12 rfl rfl)
theorem dX1_rightFrom_39 : decode cX1_rightFrom 39 = .ok (.iload_n 1, 1) := dk_27 (dk_at dksX1_rightFrom_1 15 rfl rfl)
theorem dX1_rightFrom_40 : decode cX1_rightFrom 40 = .ok (.iload 4, 2) := dk_21 4 (dk_at dksX1_rightFrom_1 16 rfl rfl)
theorem dX1_rightFrom_42 : decode cX1_rightFrom 42 = .ok (.iconst 0, 1) := dk_3 (dk_at dksX1_rightFrom_1 18 rfl rfl)
theorem dX1_rightFrom_43 : decode cX1_rightFrom 43 = .ok (.invokevirtual 202, 3) := dk_182 0 202 (dk_at dksX1_rightFrom_1 19 rfl rfl)
theorem dX1_rightFrom_46 : decode cX1_rightFrom 46 = .ok (.ifCond .eq 6, 3) := dk_153 0 6 (dk_at dksX1_rightFrom_2 0 rfl rfl)
theorem dX1_rightFrom_49 : decode cX1_rightFrom 49 = .ok (.iload 4, 2) := dk_21 4 (dk_at dksX1_rightFrom_2 3 rfl rfl)
theorem dX1_rightFrom_51 : decode cX1_rightFrom 51 = .ok (.ireturn, 1) := dk_172 (dk_at dksX1_rightFrom_2 5 rfl rfl)
theorem dX1_rightFrom_52 : decode cX1_rightFrom 52 = .ok (.iinc 4 1, 3) := dk_132 4 1 (dk_at dksX1_rightFrom_2 6 rfl rfl)
theorem dX1_rightFrom_55 : decode cX1_rightFrom 55 = .ok (.goto (-27), 3) := dk_167 255 229 (dk_at dksX1_rightFrom_2 9 rfl rfl)
theorem dX1_rightFrom_58 : decode cX1_rightFrom 58 = .ok (.bipush (-2), 2) := dk_16 254 (dk_at dksX1_rightFrom_2 12 rfl rfl)
theorem dX1_rightFrom_60 : decode cX1_rightFrom 60 = .ok (.ireturn, 1) := dk_172 (dk_at dksX1_rightFrom_2 14 rfl rfl)
abbrev cX1_nightsOf : ByteArray := prog_1_method_32_code
def yX1_nightsOf : MethodName := ⟨RX1, "nightsOf", "(II)I"⟩
def dkwX1_nightsOf_2 : List UInt8 := [3, 182, 0, 189, 27, 160, 0, 7, 4, 167, 0, 4, 3, 96, 62, 132, 4, 1, 167, 255, 223, 29, 172]
abbrev dktX1_nightsOf_2 : List UInt8 := dkwX1_nightsOf_2 ++ []
def dkwX1_nightsOf_1 : List UInt8 := [182, 0, 87, 172, 3, 62, 3, 54, 4, 21, 4, 16, 99, 163, 0, 32, 29, 42, 180, 0, 33, 28, 21, 4]
abbrev dktX1_nightsOf_1 : List UInt8 := dkwX1_nightsOf_1 ++ dktX1_nightsOf_2
def dkwX1_nightsOf_0 : List UInt8 := [42, 182, 0, 73, 42, 27, 182, 0, 133, 153, 0, 11, 42, 28, 182, 0, 150, 154, 0, 9, 42, 4]
abbrev dktX1_nightsOf_0 : List UInt8 := dkwX1_nightsOf_0 ++ dktX1_nightsOf_1
theorem dksX1_nightsOf_0 : cX1_nightsOf.data.toList.drop 0 = dktX1_nightsOf_0 := by decide +kernel
theorem dksX1_nightsOf_1 : cX1_nightsOf.data.toList.drop 22 = dktX1_nightsOf_1 := dk_seg dksX1_nightsOf_0 22 rfl rfl
theorem dksX1_nightsOf_2 : cX1_nightsOf.data.toList.drop 46 = dktX1_nightsOf_2 := dk_seg dksX1_nightsOf_1 24 rfl rfl
theorem dX1_nightsOf_0 : decode cX1_nightsOf 0 = .ok (.aload_n 0, 1) := dk_42 (dk_at dksX1_nightsOf_0 0 rfl rfl)
theorem dX1_nightsOf_1 : decode cX1_nightsOf 1 = .ok (.invokevirtual 73, 3) := dk_182 0 73 (dk_at dksX1_nightsOf_0 1 rfl rfl)
theorem dX1_nightsOf_4 : decode cX1_nightsOf 4 = .ok (.aload_n 0, 1) := dk_42 (dk_at dksX1_nightsOf_0 4 rfl rfl)
theorem dX1_nightsOf_5 : decode cX1_nightsOf 5 = .ok (.iload_n 1, 1) := dk_27 (dk_at dksX1_nightsOf_0 5 rfl rfl)
theorem dX1_nightsOf_6 : decode cX1_nightsOf 6 = .ok (.invokevirtual 133, 3) := dk_182 0 133 (dk_at dksX1_nightsOf_0 6 rfl rfl)
theorem dX1_nightsOf_9 : decode cX1_nightsOf 9 = .ok (.ifCond .eq 11, 3) := dk_153 0 11 (dk_at dksX1_nightsOf_0 9 rfl rfl)
theorem dX1_nightsOf_12 : decode cX1_nightsOf 12 = .ok (.aload_n 0, 1) := dk_42 (dk_at dksX1_nightsOf_0 12 rfl rfl)
theorem dX1_nightsOf_13 : decode cX1_nightsOf 13 = .ok (.iload_n 2, 1) := dk_28 (dk_at dksX1_nightsOf_0 13 rfl rfl)
theorem dX1_nightsOf_14 : decode cX1_nightsOf 14 = .ok (.invokevirtual 150, 3) := dk_182 0 150 (dk_at dksX1_nightsOf_0 14 rfl rfl)
theorem dX1_nightsOf_17 : decode cX1_nightsOf 17 = .ok (.ifCond .ne 9, 3) := dk_154 0 9 (dk_at dksX1_nightsOf_0 17 rfl rfl)
theorem dX1_nightsOf_20 : decode cX1_nightsOf 20 = .ok (.aload_n 0, 1) := dk_42 (dk_at dksX1_nightsOf_0 20 rfl rfl)
theorem dX1_nightsOf_21 : decode cX1_nightsOf 21 = .ok (.iconst 1, 1) := dk_4 (dk_at dksX1_nightsOf_0 21 rfl rfl)
theorem dX1_nightsOf_22 : decode cX1_nightsOf 22 = .ok (.invokevirtual 87, 3) := dk_182 0 87 (dk_at dksX1_nightsOf_1 0 rfl rfl)
theorem dX1_nightsOf_25 : decode cX1_nightsOf 25 = .ok (.ireturn, 1) := dk_172 (dk_at dksX1_nightsOf_1 3 rfl rfl)
theorem dX1_nightsOf_26 : decode cX1_nightsOf 26 = .ok (.iconst 0, 1) := dk_3 (dk_at dksX1_nightsOf_1 4 rfl rfl)
theorem dX1_nightsOf_27 : decode cX1_nightsOf 27 = .ok (.istore_n 3, 1) := dk_62 (dk_at dksX1_nightsOf_1 5 rfl rfl)
theorem dX1_nightsOf_28 : decode cX1_nightsOf 28 = .ok (.iconst 0, 1) := dk_3 (dk_at dksX1_nightsOf_1 6 rfl rfl)
theorem dX1_nightsOf_29 : decode cX1_nightsOf 29 = .ok (.istore 4, 2) := dk_54 4 (dk_at dksX1_nightsOf_1 7 rfl rfl)
theorem dX1_nightsOf_31 : decode cX1_nightsOf 31 = .ok (.iload 4, 2) := dk_21 4 (dk_at dksX1_nightsOf_1 9 rfl rfl)
theorem dX1_nightsOf_33 : decode cX1_nightsOf 33 = .ok (.bipush 99, 2) := dk_16 99 (dk_at dksX1_nightsOf_1 11 rfl rfl)
theorem dX1_nightsOf_35 : decode cX1_nightsOf 35 = .ok (.if_icmp .gt 32, 3) := dk_163 0 32 (dk_at dksX1_nightsOf_1 13 rfl rfl)
theorem dX1_nightsOf_38 : decode cX1_nightsOf 38 = .ok (.iload_n 3, 1) := dk_29 (dk_at dksX1_nightsOf_1 16 rfl rfl)
theorem dX1_nightsOf_39 : decode cX1_nightsOf 39 = .ok (.aload_n 0, 1) := dk_42 (dk_at dksX1_nightsOf_1 17 rfl rfl)
theorem dX1_nightsOf_40 : decode cX1_nightsOf 40 = .ok (.getfield 33, 3) := dk_180 0 33 (dk_at dksX1_nightsOf_1 18 rfl rfl)
theorem dX1_nightsOf_43 : decode cX1_nightsOf 43 = .ok (.iload_n 2, 1) := dk_28 (dk_at dksX1_nightsOf_1 21 rfl rfl)
theorem dX1_nightsOf_44 : decode cX1_nightsOf 44 = .ok (.iload 4, 2) := dk_21 4 (dk_at dksX1_nightsOf_1 22 rfl rfl)
theorem dX1_nightsOf_46 : decode cX1_nightsOf 46 = .ok (.iconst 0, 1) := dk_3 (dk_at dksX1_nightsOf_2 0 rfl rfl)
theorem dX1_nightsOf_47 : decode cX1_nightsOf 47 = .ok (.invokevirtual 189, 3) := dk_182 0 189 (dk_at dksX1_nightsOf_2 1 rfl rfl)
theorem dX1_nightsOf_50 : decode cX1_nightsOf 50 = .ok (.iload_n 1, 1) := dk_27 (dk_at dksX1_nightsOf_2 4 rfl rfl)
theorem dX1_nightsOf_51 : decode cX1_nightsOf 51 = .ok (.if_icmp .ne 7, 3) := dk_160 0 7 (dk_at dksX1_nightsOf_2 5 rfl rfl)
theorem dX1_nightsOf_54 : decode cX1_nightsOf 54 = .ok (.iconst 1, 1) := dk_4 (dk_at dksX1_nightsOf_2 8 rfl rfl)
theorem dX1_nightsOf_55 : decode cX1_nightsOf 55 = .ok (.goto 4, 3) := dk_167 0 4 (dk_at dksX1_nightsOf_2 9 rfl rfl)
theorem dX1_nightsOf_58 : decode cX1_nightsOf 58 = .ok (.iconst 0, 1) := dk_3 (dk_at dksX1_nightsOf_2 12 rfl rfl)
theorem dX1_nightsOf_59 : decode cX1_nightsOf 59 = .ok (.iadd, 1) := dk_96 (dk_at dksX1_nightsOf_2 13 rfl rfl)
theorem dX1_nightsOf_60 : decode cX1_nightsOf 60 = .ok (.istore_n 3, 1) := dk_62 (dk_at dksX1_nightsOf_2 14 rfl rfl)
theorem dX1_nightsOf_61 : decode cX1_nightsOf 61 = .ok (.iinc 4 1, 3) := dk_132 4 1 (dk_at dksX1_nightsOf_2 15 rfl rfl)
theorem dX1_nightsOf_64 : decode cX1_nightsOf 64 = .ok (.goto (-33), 3) := dk_167 255 223 (dk_at dksX1_nightsOf_2 18 rfl rfl)
theorem dX1_nightsOf_67 : decode cX1_nightsOf 67 = .ok (.iload_n 3, 1) := dk_29 (dk_at dksX1_nightsOf_2 21 rfl rfl)
theorem dX1_nightsOf_68 : decode cX1_nightsOf 68 = .ok (.ireturn, 1) := dk_172 (dk_at dksX1_nightsOf_2 22 rfl rfl)
abbrev cX1_round : ByteArray := prog_1_method_33_code
def yX1_round : MethodName := ⟨RX1, "round", "(I)I"⟩
def dkwX1_round_2 : List UInt8 := [182, 0, 87, 172]
abbrev dktX1_round_2 : List UInt8 := dkwX1_round_2 ++ []
def dkwX1_round_1 : List UInt8 := [180, 0, 33, 180, 0, 163, 27, 46, 42, 180, 0, 98, 180, 0, 126, 182, 0, 205, 167, 0, 8, 42, 4]
abbrev dktX1_round_1 : List UInt8 := dkwX1_round_1 ++ dktX1_round_2
def dkwX1_round_0 : List UInt8 := [42, 182, 0, 73, 42, 27, 182, 0, 150, 153, 0, 34, 42, 180, 0, 98, 180, 0, 153, 27, 50, 42]
abbrev dktX1_round_0 : List UInt8 := dkwX1_round_0 ++ dktX1_round_1
theorem dksX1_round_0 : cX1_round.data.toList.drop 0 = dktX1_round_0 := by decide +kernel
theorem dksX1_round_1 : cX1_round.data.toList.drop 22 = dktX1_round_1 := dk_seg dksX1_round_0 22 rfl rfl
theorem dksX1_round_2 : cX1_round.data.toList.drop 45 = dktX1_round_2 := dk_seg dksX1_round_1 23 rfl rfl
theorem dX1_round_0 : decode cX1_round 0 = .ok (.aload_n 0, 1) := dk_42 (dk_at dksX1_round_0 0 rfl rfl)
theorem dX1_round_1 : decode cX1_round 1 = .ok (.invokevirtual 73, 3) := dk_182 0 73 (dk_at dksX1_round_0 1 rfl rfl)
theorem dX1_round_4 : decode cX1_round 4 = .ok (.aload_n 0, 1) := dk_42 (dk_at dksX1_round_0 4 rfl rfl)
theorem dX1_round_5 : decode cX1_round 5 = .ok (.iload_n 1, 1) := dk_27 (dk_at dksX1_round_0 5 rfl rfl)
theorem dX1_round_6 : decode cX1_round 6 = .ok (.invokevirtual 150, 3) := dk_182 0 150 (dk_at dksX1_round_0 6 rfl rfl)
theorem dX1_round_9 : decode cX1_round 9 = .ok (.ifCond .eq 34, 3) := dk_153 0 34 (dk_at dksX1_round_0 9 rfl rfl)
theorem dX1_round_12 : decode cX1_round 12 = .ok (.aload_n 0, 1) := dk_42 (dk_at dksX1_round_0 12 rfl rfl)
theorem dX1_round_13 : decode cX1_round 13 = .ok (.getfield 98, 3) := dk_180 0 98 (dk_at dksX1_round_0 13 rfl rfl)
theorem dX1_round_16 : decode cX1_round 16 = .ok (.getfield 153, 3) := dk_180 0 153 (dk_at dksX1_round_0 16 rfl rfl)
theorem dX1_round_19 : decode cX1_round 19 = .ok (.iload_n 1, 1) := dk_27 (dk_at dksX1_round_0 19 rfl rfl)
theorem dX1_round_20 : decode cX1_round 20 = .ok (.aaload, 1) := dk_50 (dk_at dksX1_round_0 20 rfl rfl)
theorem dX1_round_21 : decode cX1_round 21 = .ok (.aload_n 0, 1) := dk_42 (dk_at dksX1_round_0 21 rfl rfl)
theorem dX1_round_22 : decode cX1_round 22 = .ok (.getfield 33, 3) := dk_180 0 33 (dk_at dksX1_round_1 0 rfl rfl)
theorem dX1_round_25 : decode cX1_round 25 = .ok (.getfield 163, 3) := dk_180 0 163 (dk_at dksX1_round_1 3 rfl rfl)
theorem dX1_round_28 : decode cX1_round 28 = .ok (.iload_n 1, 1) := dk_27 (dk_at dksX1_round_1 6 rfl rfl)
theorem dX1_round_29 : decode cX1_round 29 = .ok (.iaload, 1) := dk_46 (dk_at dksX1_round_1 7 rfl rfl)
theorem dX1_round_30 : decode cX1_round 30 = .ok (.aload_n 0, 1) := dk_42 (dk_at dksX1_round_1 8 rfl rfl)
theorem dX1_round_31 : decode cX1_round 31 = .ok (.getfield 98, 3) := dk_180 0 98 (dk_at dksX1_round_1 9 rfl rfl)
theorem dX1_round_34 : decode cX1_round 34 = .ok (.getfield 126, 3) := dk_180 0 126 (dk_at dksX1_round_1 12 rfl rfl)
theorem dX1_round_37 : decode cX1_round 37 = .ok (.invokevirtual 205, 3) := dk_182 0 205 (dk_at dksX1_round_1 15 rfl rfl)
theorem dX1_round_40 : decode cX1_round 40 = .ok (.goto 8, 3) := dk_167 0 8 (dk_at dksX1_round_1 18 rfl rfl)
theorem dX1_round_43 : decode cX1_round 43 = .ok (.aload_n 0, 1) := dk_42 (dk_at dksX1_round_1 21 rfl rfl)
theorem dX1_round_44 : decode cX1_round 44 = .ok (.iconst 1, 1) := dk_4 (dk_at dksX1_round_1 22 rfl rfl)
theorem dX1_round_45 : decode cX1_round 45 = .ok (.invokevirtual 87, 3) := dk_182 0 87 (dk_at dksX1_round_2 0 rfl rfl)
theorem dX1_round_48 : decode cX1_round 48 = .ok (.ireturn, 1) := dk_172 (dk_at dksX1_round_2 3 rfl rfl)
abbrev cX1_dividing : ByteArray := prog_1_method_4_code
def yX1_dividing : MethodName := ⟨RX1, "dividing", "(JJ)J"⟩
def dkwX1_dividing_0 : List UInt8 := [32, 9, 148, 154, 0, 7, 30, 167, 0, 10, 32, 30, 32, 113, 184, 0, 1, 173]
abbrev dktX1_dividing_0 : List UInt8 := dkwX1_dividing_0 ++ []
theorem dksX1_dividing_0 : cX1_dividing.data.toList.drop 0 = dktX1_dividing_0 := by decide +kernel
theorem dX1_dividing_0 : decode cX1_dividing 0 = .ok (.lload_n 2, 1) := dk_32 (dk_at dksX1_dividing_0 0 rfl rfl)
theorem dX1_dividing_1 : decode cX1_dividing 1 = .ok (.lconst 0, 1) := dk_9 (dk_at dksX1_dividing_0 1 rfl rfl)
theorem dX1_dividing_2 : decode cX1_dividing 2 = .ok (.lcmp, 1) := dk_148 (dk_at dksX1_dividing_0 2 rfl rfl)
theorem dX1_dividing_3 : decode cX1_dividing 3 = .ok (.ifCond .ne 7, 3) := dk_154 0 7 (dk_at dksX1_dividing_0 3 rfl rfl)
theorem dX1_dividing_6 : decode cX1_dividing 6 = .ok (.lload_n 0, 1) := dk_30 (dk_at dksX1_dividing_0 6 rfl rfl)
theorem dX1_dividing_7 : decode cX1_dividing 7 = .ok (.goto 10, 3) := dk_167 0 10 (dk_at dksX1_dividing_0 7 rfl rfl)
theorem dX1_dividing_10 : decode cX1_dividing 10 = .ok (.lload_n 2, 1) := dk_32 (dk_at dksX1_dividing_0 10 rfl rfl)
theorem dX1_dividing_11 : decode cX1_dividing 11 = .ok (.lload_n 0, 1) := dk_30 (dk_at dksX1_dividing_0 11 rfl rfl)
theorem dX1_dividing_12 : decode cX1_dividing 12 = .ok (.lload_n 2, 1) := dk_32 (dk_at dksX1_dividing_0 12 rfl rfl)
theorem dX1_dividing_13 : decode cX1_dividing 13 = .ok (.lrem, 1) := dk_113 (dk_at dksX1_dividing_0 13 rfl rfl)
theorem dX1_dividing_14 : decode cX1_dividing 14 = .ok (.invokestatic 1, 3) := dk_184 0 1 (dk_at dksX1_dividing_0 14 rfl rfl)
theorem dX1_dividing_17 : decode cX1_dividing 17 = .ok (.lreturn, 1) := dk_173 (dk_at dksX1_dividing_0 17 rfl rfl)
abbrev cX1_bestNight : ByteArray := prog_1_method_34_code
def yX1_bestNight : MethodName := ⟨RX1, "bestNight", "()I"⟩
def dkwX1_bestNight_2 : List UInt8 := [184, 0, 199, 164, 0, 5, 28, 60, 132, 2, 1, 167, 255, 220, 27, 172]
abbrev dktX1_bestNight_2 : List UInt8 := dkwX1_bestNight_2 ++ []
def dkwX1_bestNight_1 : List UInt8 := [163, 0, 36, 42, 180, 0, 33, 28, 182, 0, 196, 184, 0, 199, 42, 180, 0, 33, 27, 182, 0, 196]
abbrev dktX1_bestNight_1 : List UInt8 := dkwX1_bestNight_1 ++ dktX1_bestNight_2
def dkwX1_bestNight_0 : List UInt8 := [42, 182, 0, 73, 42, 180, 0, 98, 199, 0, 9, 42, 4, 182, 0, 87, 172, 3, 60, 4, 61, 28, 16, 99]
abbrev dktX1_bestNight_0 : List UInt8 := dkwX1_bestNight_0 ++ dktX1_bestNight_1
theorem dksX1_bestNight_0 : cX1_bestNight.data.toList.drop 0 = dktX1_bestNight_0 := by decide +kernel
theorem dksX1_bestNight_1 : cX1_bestNight.data.toList.drop 24 = dktX1_bestNight_1 := dk_seg dksX1_bestNight_0 24 rfl rfl
theorem dksX1_bestNight_2 : cX1_bestNight.data.toList.drop 46 = dktX1_bestNight_2 := dk_seg dksX1_bestNight_1 22 rfl rfl
theorem dX1_bestNight_0 : decode cX1_bestNight 0 = .ok (.aload_n 0, 1) := dk_42 (dk_at dksX1_bestNight_0 0 rfl rfl)
theorem dX1_bestNight_1 : decode cX1_bestNight 1 = .ok (.invokevirtual 73, 3) := dk_182 0 73 (dk_at dksX1_bestNight_0 1 rfl rfl)
theorem dX1_bestNight_4 : decode cX1_bestNight 4 = .ok (.aload_n 0, 1) := dk_42 (dk_at dksX1_bestNight_0 4 rfl rfl)
theorem dX1_bestNight_5 : decode cX1_bestNight 5 = .ok (.getfield 98, 3) := dk_180 0 98 (dk_at dksX1_bestNight_0 5 rfl rfl)
theorem dX1_bestNight_8 : decode cX1_bestNight 8 = .ok (.ifnonnull 9, 3) := dk_199 0 9 (dk_at dksX1_bestNight_0 8 rfl rfl)
theorem dX1_bestNight_11 : decode cX1_bestNight 11 = .ok (.aload_n 0, 1) := dk_42 (dk_at dksX1_bestNight_0 11 rfl rfl)
theorem dX1_bestNight_12 : decode cX1_bestNight 12 = .ok (.iconst 1, 1) := dk_4 (dk_at dksX1_bestNight_0 12 rfl rfl)
theorem dX1_bestNight_13 : decode cX1_bestNight 13 = .ok (.invokevirtual 87, 3) := dk_182 0 87 (dk_at dksX1_bestNight_0 13 rfl rfl)
theorem dX1_bestNight_16 : decode cX1_bestNight 16 = .ok (.ireturn, 1) := dk_172 (dk_at dksX1_bestNight_0 16 rfl rfl)
theorem dX1_bestNight_17 : decode cX1_bestNight 17 = .ok (.iconst 0, 1) := dk_3 (dk_at dksX1_bestNight_0 17 rfl rfl)
theorem dX1_bestNight_18 : decode cX1_bestNight 18 = .ok (.istore_n 1, 1) := dk_60 (dk_at dksX1_bestNight_0 18 rfl rfl)
theorem dX1_bestNight_19 : decode cX1_bestNight 19 = .ok (.iconst 1, 1) := dk_4 (dk_at dksX1_bestNight_0 19 rfl rfl)
theorem dX1_bestNight_20 : decode cX1_bestNight 20 = .ok (.istore_n 2, 1) := dk_61 (dk_at dksX1_bestNight_0 20 rfl rfl)
theorem dX1_bestNight_21 : decode cX1_bestNight 21 = .ok (.iload_n 2, 1) := dk_28 (dk_at dksX1_bestNight_0 21 rfl rfl)
theorem dX1_bestNight_22 : decode cX1_bestNight 22 = .ok (.bipush 99, 2) := dk_16 99 (dk_at dksX1_bestNight_0 22 rfl rfl)
theorem dX1_bestNight_24 : decode cX1_bestNight 24 = .ok (.if_icmp .gt 36, 3) := dk_163 0 36 (dk_at dksX1_bestNight_1 0 rfl rfl)
theorem dX1_bestNight_27 : decode cX1_bestNight 27 = .ok (.aload_n 0, 1) := dk_42 (dk_at dksX1_bestNight_1 3 rfl rfl)
theorem dX1_bestNight_28 : decode cX1_bestNight 28 = .ok (.getfield 33, 3) := dk_180 0 33 (dk_at dksX1_bestNight_1 4 rfl rfl)
theorem dX1_bestNight_31 : decode cX1_bestNight 31 = .ok (.iload_n 2, 1) := dk_28 (dk_at dksX1_bestNight_1 7 rfl rfl)
theorem dX1_bestNight_32 : decode cX1_bestNight 32 = .ok (.invokevirtual 196, 3) := dk_182 0 196 (dk_at dksX1_bestNight_1 8 rfl rfl)
theorem dX1_bestNight_35 : decode cX1_bestNight 35 = .ok (.invokestatic 199, 3) := dk_184 0 199 (dk_at dksX1_bestNight_1 11 rfl rfl)
theorem dX1_bestNight_38 : decode cX1_bestNight 38 = .ok (.aload_n 0, 1) := dk_42 (dk_at dksX1_bestNight_1 14 rfl rfl)
theorem dX1_bestNight_39 : decode cX1_bestNight 39 = .ok (.getfield 33, 3) := dk_180 0 33 (dk_at dksX1_bestNight_1 15 rfl rfl)
theorem dX1_bestNight_42 : decode cX1_bestNight 42 = .ok (.iload_n 1, 1) := dk_27 (dk_at dksX1_bestNight_1 18 rfl rfl)
theorem dX1_bestNight_43 : decode cX1_bestNight 43 = .ok (.invokevirtual 196, 3) := dk_182 0 196 (dk_at dksX1_bestNight_1 19 rfl rfl)
theorem dX1_bestNight_46 : decode cX1_bestNight 46 = .ok (.invokestatic 199, 3) := dk_184 0 199 (dk_at dksX1_bestNight_2 0 rfl rfl)
theorem dX1_bestNight_49 : decode cX1_bestNight 49 = .ok (.if_icmp .le 5, 3) := dk_164 0 5 (dk_at dksX1_bestNight_2 3 rfl rfl)
theorem dX1_bestNight_52 : decode cX1_bestNight 52 = .ok (.iload_n 2, 1) := dk_28 (dk_at dksX1_bestNight_2 6 rfl rfl)
theorem dX1_bestNight_53 : decode cX1_bestNight 53 = .ok (.istore_n 1, 1) := dk_60 (dk_at dksX1_bestNight_2 7 rfl rfl)
theorem dX1_bestNight_54 : decode cX1_bestNight 54 = .ok (.iinc 2 1, 3) := dk_132 2 1 (dk_at dksX1_bestNight_2 8 rfl rfl)
theorem dX1_bestNight_57 : decode cX1_bestNight 57 = .ok (.goto (-36), 3) := dk_167 255 220 (dk_at dksX1_bestNight_2 11 rfl rfl)
theorem dX1_bestNight_60 : decode cX1_bestNight 60 = .ok (.iload_n 1, 1) := dk_27 (dk_at dksX1_bestNight_2 14 rfl rfl)
theorem dX1_bestNight_61 : decode cX1_bestNight 61 = .ok (.ireturn, 1) := dk_172 (dk_at dksX1_bestNight_2 15 rfl rfl)
abbrev cX1_perfect : ByteArray := prog_1_method_35_code
def yX1_perfect : MethodName := ⟨RX1, "perfect", "()I"⟩
def dkwX1_perfect_2 : List UInt8 := [160, 0, 7, 4, 167, 0, 4, 3, 96, 60, 132, 2, 1, 167, 255, 218, 27, 172]
abbrev dktX1_perfect_2 : List UInt8 := dkwX1_perfect_2 ++ []
def dkwX1_perfect_1 : List UInt8 := [163, 0, 38, 27, 42, 180, 0, 33, 28, 182, 0, 196, 184, 0, 199, 42, 180, 0, 98, 180, 0, 123]
abbrev dktX1_perfect_1 : List UInt8 := dkwX1_perfect_1 ++ dktX1_perfect_2
def dkwX1_perfect_0 : List UInt8 := [42, 182, 0, 73, 42, 180, 0, 98, 199, 0, 9, 42, 4, 182, 0, 87, 172, 3, 60, 3, 61, 28, 16, 99]
abbrev dktX1_perfect_0 : List UInt8 := dkwX1_perfect_0 ++ dktX1_perfect_1
theorem dksX1_perfect_0 : cX1_perfect.data.toList.drop 0 = dktX1_perfect_0 := by decide +kernel
theorem dksX1_perfect_1 : cX1_perfect.data.toList.drop 24 = dktX1_perfect_1 := dk_seg dksX1_perfect_0 24 rfl rfl
theorem dksX1_perfect_2 : cX1_perfect.data.toList.drop 46 = dktX1_perfect_2 := dk_seg dksX1_perfect_1 22 rfl rfl
theorem dX1_perfect_0 : decode cX1_perfect 0 = .ok (.aload_n 0, 1) := dk_42 (dk_at dksX1_perfect_0 0 rfl rfl)
theorem dX1_perfect_1 : decode cX1_perfect 1 = .ok (.invokevirtual 73, 3) := dk_182 0 73 (dk_at dksX1_perfect_0 1 rfl rfl)
theorem dX1_perfect_4 : decode cX1_perfect 4 = .ok (.aload_n 0, 1) := dk_42 (dk_at dksX1_perfect_0 4 rfl rfl)
theorem dX1_perfect_5 : decode cX1_perfect 5 = .ok (.getfield 98, 3) := dk_180 0 98 (dk_at dksX1_perfect_0 5 rfl rfl)
theorem dX1_perfect_8 : decode cX1_perfect 8 = .ok (.ifnonnull 9, 3) := dk_199 0 9 (dk_at dksX1_perfect_0 8 rfl rfl)
theorem dX1_perfect_11 : decode cX1_perfect 11 = .ok (.aload_n 0, 1) := dk_42 (dk_at dksX1_perfect_0 11 rfl rfl)
theorem dX1_perfect_12 : decode cX1_perfect 12 = .ok (.iconst 1, 1) := dk_4 (dk_at dksX1_perfect_0 12 rfl rfl)
theorem dX1_perfect_13 : decode cX1_perfect 13 = .ok (.invokevirtual 87, 3) := dk_182 0 87 (dk_at dksX1_perfect_0 13 rfl rfl)
theorem dX1_perfect_16 : decode cX1_perfect 16 = .ok (.ireturn, 1) := dk_172 (dk_at dksX1_perfect_0 16 rfl rfl)
theorem dX1_perfect_17 : decode cX1_perfect 17 = .ok (.iconst 0, 1) := dk_3 (dk_at dksX1_perfect_0 17 rfl rfl)
theorem dX1_perfect_18 : decode cX1_perfect 18 = .ok (.istore_n 1, 1) := dk_60 (dk_at dksX1_perfect_0 18 rfl rfl)
theorem dX1_perfect_19 : decode cX1_perfect 19 = .ok (.iconst 0, 1) := dk_3 (dk_at dksX1_perfect_0 19 rfl rfl)
theorem dX1_perfect_20 : decode cX1_perfect 20 = .ok (.istore_n 2, 1) := dk_61 (dk_at dksX1_perfect_0 20 rfl rfl)
theorem dX1_perfect_21 : decode cX1_perfect 21 = .ok (.iload_n 2, 1) := dk_28 (dk_at dksX1_perfect_0 21 rfl rfl)
theorem dX1_perfect_22 : decode cX1_perfect 22 = .ok (.bipush 99, 2) := dk_16 99 (dk_at dksX1_perfect_0 22 rfl rfl)
theorem dX1_perfect_24 : decode cX1_perfect 24 = .ok (.if_icmp .gt 38, 3) := dk_163 0 38 (dk_at dksX1_perfect_1 0 rfl rfl)
theorem dX1_perfect_27 : decode cX1_perfect 27 = .ok (.iload_n 1, 1) := dk_27 (dk_at dksX1_perfect_1 3 rfl rfl)
theorem dX1_perfect_28 : decode cX1_perfect 28 = .ok (.aload_n 0, 1) := dk_42 (dk_at dksX1_perfect_1 4 rfl rfl)
theorem dX1_perfect_29 : decode cX1_perfect 29 = .ok (.getfield 33, 3) := dk_180 0 33 (dk_at dksX1_perfect_1 5 rfl rfl)
theorem dX1_perfect_32 : decode cX1_perfect 32 = .ok (.iload_n 2, 1) := dk_28 (dk_at dksX1_perfect_1 8 rfl rfl)
theorem dX1_perfect_33 : decode cX1_perfect 33 = .ok (.invokevirtual 196, 3) := dk_182 0 196 (dk_at dksX1_perfect_1 9 rfl rfl)
theorem dX1_perfect_36 : decode cX1_perfect 36 = .ok (.invokestatic 199, 3) := dk_184 0 199 (dk_at dksX1_perfect_1 12 rfl rfl)
theorem dX1_perfect_39 : decode cX1_perfect 39 = .ok (.aload_n 0, 1) := dk_42 (dk_at dksX1_perfect_1 15 rfl rfl)
theorem dX1_perfect_40 : decode cX1_perfect 40 = .ok (.getfield 98, 3) := dk_180 0 98 (dk_at dksX1_perfect_1 16 rfl rfl)
theorem dX1_perfect_43 : decode cX1_perfect 43 = .ok (.getfield 123, 3) := dk_180 0 123 (dk_at dksX1_perfect_1 19 rfl rfl)
theorem dX1_perfect_46 : decode cX1_perfect 46 = .ok (.if_icmp .ne 7, 3) := dk_160 0 7 (dk_at dksX1_perfect_2 0 rfl rfl)
theorem dX1_perfect_49 : decode cX1_perfect 49 = .ok (.iconst 1, 1) := dk_4 (dk_at dksX1_perfect_2 3 rfl rfl)
theorem dX1_perfect_50 : decode cX1_perfect 50 = .ok (.goto 4, 3) := dk_167 0 4 (dk_at dksX1_perfect_2 4 rfl rfl)
theorem dX1_perfect_53 : decode cX1_perfect 53 = .ok (.iconst 0, 1) := dk_3 (dk_at dksX1_perfect_2 7 rfl rfl)
theorem dX1_perfect_54 : decode cX1_perfect 54 = .ok (.iadd, 1) := dk_96 (dk_at dksX1_perfect_2 8 rfl rfl)
theorem dX1_perfect_55 : decode cX1_perfect 55 = .ok (.istore_n 1, 1) := dk_60 (dk_at dksX1_perfect_2 9 rfl rfl)
theorem dX1_perfect_56 : decode cX1_perfect 56 = .ok (.iinc 2 1, 3) := dk_132 2 1 (dk_at dksX1_perfect_2 10 rfl rfl)
theorem dX1_perfect_59 : decode cX1_perfect 59 = .ok (.goto (-38), 3) := dk_167 255 218 (dk_at dksX1_perfect_2 13 rfl rfl)
theorem dX1_perfect_62 : decode cX1_perfect 62 = .ok (.iload_n 1, 1) := dk_27 (dk_at dksX1_perfect_2 16 rfl rfl)
theorem dX1_perfect_63 : decode cX1_perfect 63 = .ok (.ireturn, 1) := dk_172 (dk_at dksX1_perfect_2 17 rfl rfl)
abbrev cX1_together : ByteArray := prog_1_method_36_code
def yX1_together : MethodName := ⟨RX1, "together", "(II)I"⟩
def dkwX1_together_3 : List UInt8 := [16, 254, 172]
abbrev dktX1_together_3 : List UInt8 := dkwX1_together_3 ++ []
def dkwX1_together_2 : List UInt8 := [182, 0, 189, 42, 180, 0, 33, 28, 29, 3, 182, 0, 189, 160, 0, 5, 29, 172, 132, 3, 1, 167, 255, 222]
abbrev dktX1_together_2 : List UInt8 := dkwX1_together_2 ++ dktX1_together_3
def dkwX1_together_1 : List UInt8 := [160, 0, 9, 42, 4, 182, 0, 87, 172, 3, 62, 29, 16, 99, 163, 0, 34, 42, 180, 0, 33, 27, 29, 3]
abbrev dktX1_together_1 : List UInt8 := dkwX1_together_1 ++ dktX1_together_2
def dkwX1_together_0 : List UInt8 := [42, 182, 0, 73, 42, 27, 182, 0, 150, 153, 0, 16, 42, 28, 182, 0, 150, 153, 0, 8, 27, 28]
abbrev dktX1_together_0 : List UInt8 := dkwX1_together_0 ++ dktX1_together_1
theorem dksX1_together_0 : cX1_together.data.toList.drop 0 = dktX1_together_0 := by decide +kernel
theorem dksX1_together_1 : cX1_together.data.toList.drop 22 = dktX1_together_1 := dk_seg dksX1_together_0 22 rfl rfl
theorem dksX1_together_2 : cX1_together.data.toList.drop 46 = dktX1_together_2 := dk_seg dksX1_together_1 24 rfl rfl
theorem dksX1_together_3 : cX1_together.data.toList.drop 70 = dktX1_together_3 := dk_seg dksX1_together_2 24 rfl rfl
theorem dX1_together_0 : decode cX1_together 0 = .ok (.aload_n 0, 1) := dk_42 (dk_at dksX1_together_0 0 rfl rfl)
theorem dX1_together_1 : decode cX1_together 1 = .ok (.invokevirtual 73, 3) := dk_182 0 73 (dk_at dksX1_together_0 1 rfl rfl)
theorem dX1_together_4 : decode cX1_together 4 = .ok (.aload_n 0, 1) := dk_42 (dk_at dksX1_together_0 4 rfl rfl)
theorem dX1_together_5 : decode cX1_together 5 = .ok (.iload_n 1, 1) := dk_27 (dk_at dksX1_together_0 5 rfl rfl)
theorem dX1_together_6 : decode cX1_together 6 = .ok (.invokevirtual 150, 3) := dk_182 0 150 (dk_at dksX1_together_0 6 rfl rfl)
theorem dX1_together_9 : decode cX1_together 9 = .ok (.ifCond .eq 16, 3) := dk_153 0 16 (dk_at dksX1_together_0 9 rfl rfl)
theorem dX1_together_12 : decode cX1_together 12 = .ok (.aload_n 0, 1) := dk_42 (dk_at dksX1_together_0 12 rfl rfl)
theorem dX1_together_13 : decode cX1_together 13 = .ok (.iload_n 2, 1) := dk_28 (dk_at dksX1_together_0 13 rfl rfl)
theorem dX1_together_14 : decode cX1_together 14 = .ok (.invokevirtual 150, 3) := dk_182 0 150 (dk_at dksX1_together_0 14 rfl rfl)
theorem dX1_together_17 : decode cX1_together 17 = .ok (.ifCond .eq 8, 3) := dk_153 0 8 (dk_at dksX1_together_0 17 rfl rfl)
theorem dX1_together_20 : decode cX1_together 20 = .ok (.iload_n 1, 1) := dk_27 (dk_at dksX1_together_0 20 rfl rfl)
theorem dX1_together_21 : decode cX1_together 21 = .ok (.iload_n 2, 1) := dk_28 (dk_at dksX1_together_0 21 rfl rfl)
theorem dX1_together_22 : decode cX1_together 22 = .ok (.if_icmp .ne 9, 3) := dk_160 0 9 (dk_at dksX1_together_1 0 rfl rfl)
theorem dX1_together_25 : decode cX1_together 25 = .ok (.aload_n 0, 1) := dk_42 (dk_at dksX1_together_1 3 rfl rfl)
theorem dX1_together_26 : decode cX1_together 26 = .ok (.iconst 1, 1) := dk_4 (dk_at dksX1_together_1 4 rfl rfl)
theorem dX1_together_27 : decode cX1_together 27 = .ok (.invokevirtual 87, 3) := dk_182 0 87 (dk_at dksX1_together_1 5 rfl rfl)
theorem dX1_together_30 : decode cX1_together 30 = .ok (.ireturn, 1) := dk_172 (dk_at dksX1_together_1 8 rfl rfl)
theorem dX1_together_31 : decode cX1_together 31 = .ok (.iconst 0, 1) := dk_3 (dk_at dksX1_together_1 9 rfl rfl)
theorem dX1_together_32 : decode cX1_together 32 = .ok (.istore_n 3, 1) := dk_62 (dk_at dksX1_together_1 10 rfl rfl)
theorem dX1_together_33 : decode cX1_together 33 = .ok (.iload_n 3, 1) := dk_29 (dk_at dksX1_together_1 11 rfl rfl)
theorem dX1_together_34 : decode cX1_together 34 = .ok (.bipush 99, 2) := dk_16 99 (dk_at dksX1_together_1 12 rfl rfl)
theorem dX1_together_36 : decode cX1_together 36 = .ok (.if_icmp .gt 34, 3) := dk_163 0 34 (dk_at dksX1_together_1 14 rfl rfl)
theorem dX1_together_39 : decode cX1_together 39 = .ok (.aload_n 0, 1) := dk_42 (dk_at dksX1_together_1 17 rfl rfl)
theorem dX1_together_40 : decode cX1_together 40 = .ok (.getfield 33, 3) := dk_180 0 33 (dk_at dksX1_together_1 18 rfl rfl)
theorem dX1_together_43 : decode cX1_together 43 = .ok (.iload_n 1, 1) := dk_27 (dk_at dksX1_together_1 21 rfl rfl)
theorem dX1_together_44 : decode cX1_together 44 = .ok (.iload_n 3, 1) := dk_29 (dk_at dksX1_together_1 22 rfl rfl)
theorem dX1_together_45 : decode cX1_together 45 = .ok (.iconst 0, 1) := dk_3 (dk_at dksX1_together_1 23 rfl rfl)
theorem dX1_together_46 : decode cX1_together 46 = .ok (.invokevirtual 189, 3) := dk_182 0 189 (dk_at dksX1_together_2 0 rfl rfl)
theorem dX1_together_49 : decode cX1_together 49 = .ok (.aload_n 0, 1) := dk_42 (dk_at dksX1_together_2 3 rfl rfl)
theorem dX1_together_50 : decode cX1_together 50 = .ok (.getfield 33, 3) := dk_180 0 33 (dk_at dksX1_together_2 4 rfl rfl)
theorem dX1_together_53 : decode cX1_together 53 = .ok (.iload_n 2, 1) := dk_28 (dk_at dksX1_together_2 7 rfl rfl)
theorem dX1_together_54 : decode cX1_together 54 = .ok (.iload_n 3, 1) := dk_29 (dk_at dksX1_together_2 8 rfl rfl)
theorem dX1_together_55 : decode cX1_together 55 = .ok (.iconst 0, 1) := dk_3 (dk_at dksX1_together_2 9 rfl rfl)
theorem dX1_together_56 : decode cX1_together 56 = .ok (.invokevirtual 189, 3) := dk_182 0 189 (dk_at dksX1_together_2 10 rfl rfl)
theorem dX1_together_59 : decode cX1_together 59 = .ok (.if_icmp .ne 5, 3) := dk_160 0 5 (dk_at dksX1_together_2 13 rfl rfl)
theorem dX1_together_62 : decode cX1_together 62 = .ok (.iload_n 3, 1) := dk_29 (dk_at dksX1_together_2 16 rfl rfl)
theorem dX1_together_63 : decode cX1_together 63 = .ok (.ireturn, 1) := dk_172 (dk_at dksX1_together_2 17 rfl rfl)
theorem dX1_together_64 : decode cX1_together 64 = .ok (.iinc 3 1, 3) := dk_132 3 1 (dk_at dksX1_together_2 18 rfl rfl)
theorem dX1_together_67 : decode cX1_together 67 = .ok (.goto (-34), 3) := dk_167 255 222 (dk_at dksX1_together_2 21 rfl rfl)
theorem dX1_together_70 : decode cX1_together 70 = .ok (.bipush (-2), 2) := dk_16 254 (dk_at dksX1_together_3 0 rfl rfl)
theorem dX1_together_72 : decode cX1_together 72 = .ok (.ireturn, 1) := dk_172 (dk_at dksX1_together_3 2 rfl rfl)
abbrev cX1_aimFor : ByteArray := prog_1_method_38_code
def yX1_aimFor : MethodName := ⟨RX1, "aimFor", "(III)I"⟩
def dkwX1_aimFor_2 : List UInt8 := [54, 5, 42, 27, 21, 5, 28, 29, 182, 0, 211, 154, 0, 9, 132, 5, 1, 167, 255, 241, 21, 5, 172]
abbrev dktX1_aimFor_2 : List UInt8 := dkwX1_aimFor_2 ++ []
def dkwX1_aimFor_1 : List UInt8 := [167, 0, 4, 3, 29, 182, 0, 178, 54, 4, 21, 4, 153, 0, 10, 42, 21, 4, 182, 0, 87, 172, 3]
abbrev dktX1_aimFor_1 : List UInt8 := dkwX1_aimFor_1 ++ dktX1_aimFor_2
def dkwX1_aimFor_0 : List UInt8 := [42, 182, 0, 73, 42, 42, 27, 182, 0, 150, 153, 0, 15, 42, 28, 182, 0, 133, 153, 0, 7, 4]
abbrev dktX1_aimFor_0 : List UInt8 := dkwX1_aimFor_0 ++ dktX1_aimFor_1
theorem dksX1_aimFor_0 : cX1_aimFor.data.toList.drop 0 = dktX1_aimFor_0 := by decide +kernel
theorem dksX1_aimFor_1 : cX1_aimFor.data.toList.drop 22 = dktX1_aimFor_1 := dk_seg dksX1_aimFor_0 22 rfl rfl
theorem dksX1_aimFor_2 : cX1_aimFor.data.toList.drop 45 = dktX1_aimFor_2 := dk_seg dksX1_aimFor_1 23 rfl rfl
theorem dX1_aimFor_0 : decode cX1_aimFor 0 = .ok (.aload_n 0, 1) := dk_42 (dk_at dksX1_aimFor_0 0 rfl rfl)
theorem dX1_aimFor_1 : decode cX1_aimFor 1 = .ok (.invokevirtual 73, 3) := dk_182 0 73 (dk_at dksX1_aimFor_0 1 rfl rfl)
theorem dX1_aimFor_4 : decode cX1_aimFor 4 = .ok (.aload_n 0, 1) := dk_42 (dk_at dksX1_aimFor_0 4 rfl rfl)
theorem dX1_aimFor_5 : decode cX1_aimFor 5 = .ok (.aload_n 0, 1) := dk_42 (dk_at dksX1_aimFor_0 5 rfl rfl)
theorem dX1_aimFor_6 : decode cX1_aimFor 6 = .ok (.iload_n 1, 1) := dk_27 (dk_at dksX1_aimFor_0 6 rfl rfl)
theorem dX1_aimFor_7 : decode cX1_aimFor 7 = .ok (.invokevirtual 150, 3) := dk_182 0 150 (dk_at dksX1_aimFor_0 7 rfl rfl)
theorem dX1_aimFor_10 : decode cX1_aimFor 10 = .ok (.ifCond .eq 15, 3) := dk_153 0 15 (dk_at dksX1_aimFor_0 10 rfl rfl)
theorem dX1_aimFor_13 : decode cX1_aimFor 13 = .ok (.aload_n 0, 1) := dk_42 (dk_at dksX1_aimFor_0 13 rfl rfl)
theorem dX1_aimFor_14 : decode cX1_aimFor 14 = .ok (.iload_n 2, 1) := dk_28 (dk_at dksX1_aimFor_0 14 rfl rfl)
theorem dX1_aimFor_15 : decode cX1_aimFor 15 = .ok (.invokevirtual 133, 3) := dk_182 0 133 (dk_at dksX1_aimFor_0 15 rfl rfl)
theorem dX1_aimFor_18 : decode cX1_aimFor 18 = .ok (.ifCond .eq 7, 3) := dk_153 0 7 (dk_at dksX1_aimFor_0 18 rfl rfl)
theorem dX1_aimFor_21 : decode cX1_aimFor 21 = .ok (.iconst 1, 1) := dk_4 (dk_at dksX1_aimFor_0 21 rfl rfl)
theorem dX1_aimFor_22 : decode cX1_aimFor 22 = .ok (.goto 4, 3) := dk_167 0 4 (dk_at dksX1_aimFor_1 0 rfl rfl)
theorem dX1_aimFor_25 : decode cX1_aimFor 25 = .ok (.iconst 0, 1) := dk_3 (dk_at dksX1_aimFor_1 3 rfl rfl)
theorem dX1_aimFor_26 : decode cX1_aimFor 26 = .ok (.iload_n 3, 1) := dk_29 (dk_at dksX1_aimFor_1 4 rfl rfl)
theorem dX1_aimFor_27 : decode cX1_aimFor 27 = .ok (.invokevirtual 178, 3) := dk_182 0 178 (dk_at dksX1_aimFor_1 5 rfl rfl)
theorem dX1_aimFor_30 : decode cX1_aimFor 30 = .ok (.istore 4, 2) := dk_54 4 (dk_at dksX1_aimFor_1 8 rfl rfl)
theorem dX1_aimFor_32 : decode cX1_aimFor 32 = .ok (.iload 4, 2) := dk_21 4 (dk_at dksX1_aimFor_1 10 rfl rfl)
theorem dX1_aimFor_34 : decode cX1_aimFor 34 = .ok (.ifCond .eq 10, 3) := dk_153 0 10 (dk_at dksX1_aimFor_1 12 rfl rfl)
theorem dX1_aimFor_37 : decode cX1_aimFor 37 = .ok (.aload_n 0, 1) := dk_42 (dk_at dksX1_aimFor_1 15 rfl rfl)
theorem dX1_aimFor_38 : decode cX1_aimFor 38 = .ok (.iload 4, 2) := dk_21 4 (dk_at dksX1_aimFor_1 16 rfl rfl)
theorem dX1_aimFor_40 : decode cX1_aimFor 40 = .ok (.invokevirtual 87, 3) := dk_182 0 87 (dk_at dksX1_aimFor_1 18 rfl rfl)
theorem dX1_aimFor_43 : decode cX1_aimFor 43 = .ok (.ireturn, 1) := dk_172 (dk_at dksX1_aimFor_1 21 rfl rfl)
theorem dX1_aimFor_44 : decode cX1_aimFor 44 = .ok (.iconst 0, 1) := dk_3 (dk_at dksX1_aimFor_1 22 rfl rfl)
theorem dX1_aimFor_45 : decode cX1_aimFor 45 = .ok (.istore 5, 2) := dk_54 5 (dk_at dksX1_aimFor_2 0 rfl rfl)
theorem dX1_aimFor_47 : decode cX1_aimFor 47 = .ok (.aload_n 0, 1) := dk_42 (dk_at dksX1_aimFor_2 2 rfl rfl)
theorem dX1_aimFor_48 : decode cX1_aimFor 48 = .ok (.iload_n 1, 1) := dk_27 (dk_at dksX1_aimFor_2 3 rfl rfl)
theorem dX1_aimFor_49 : decode cX1_aimFor 49 = .ok (.iload 5, 2) := dk_21 5 (dk_at dksX1_aimFor_2 4 rfl rfl)
theorem dX1_aimFor_51 : decode cX1_aimFor 51 = .ok (.iload_n 2, 1) := dk_28 (dk_at dksX1_aimFor_2 6 rfl rfl)
theorem dX1_aimFor_52 : decode cX1_aimFor 52 = .ok (.iload_n 3, 1) := dk_29 (dk_at dksX1_aimFor_2 7 rfl rfl)
theorem dX1_aimFor_53 : decode cX1_aimFor 53 = .ok (.invokevirtual 211, 3) := dk_182 0 211 (dk_at dksX1_aimFor_2 8 rfl rfl)
theorem dX1_aimFor_56 : decode cX1_aimFor 56 = .ok (.ifCond .ne 9, 3) := dk_154 0 9 (dk_at dksX1_aimFor_2 11 rfl rfl)
theorem dX1_aimFor_59 : decode cX1_aimFor 59 = .ok (.iinc 5 1, 3) := dk_132 5 1 (dk_at dksX1_aimFor_2 14 rfl rfl)
theorem dX1_aimFor_62 : decode cX1_aimFor 62 = .ok (.goto (-15), 3) := dk_167 255 241 (dk_at dksX1_aimFor_2 17 rfl rfl)
theorem dX1_aimFor_65 : decode cX1_aimFor 65 = .ok (.iload 5, 2) := dk_21 5 (dk_at dksX1_aimFor_2 20 rfl rfl)
theorem dX1_aimFor_67 : decode cX1_aimFor 67 = .ok (.ireturn, 1) := dk_172 (dk_at dksX1_aimFor_2 22 rfl rfl)
abbrev cX1_isAim : ByteArray := prog_1_method_37_code
def yX1_isAim : MethodName := ⟨RX1, "isAim", "(IIII)Z"⟩
def dkwX1_isAim_1 : List UInt8 := [167, 0, 4, 3, 172]
abbrev dktX1_isAim_1 : List UInt8 := dkwX1_isAim_1 ++ []
def dkwX1_isAim_0 : List UInt8 := [42, 180, 0, 33, 42, 180, 0, 33, 27, 28, 21, 4, 182, 0, 185, 182, 0, 208, 29, 160, 0, 7, 4]
abbrev dktX1_isAim_0 : List UInt8 := dkwX1_isAim_0 ++ dktX1_isAim_1
theorem dksX1_isAim_0 : cX1_isAim.data.toList.drop 0 = dktX1_isAim_0 := by decide +kernel
theorem dksX1_isAim_1 : cX1_isAim.data.toList.drop 23 = dktX1_isAim_1 := dk_seg dksX1_isAim_0 23 rfl rfl
theorem dX1_isAim_0 : decode cX1_isAim 0 = .ok (.aload_n 0, 1) := dk_42 (dk_at dksX1_isAim_0 0 rfl rfl)
theorem dX1_isAim_1 : decode cX1_isAim 1 = .ok (.getfield 33, 3) := dk_180 0 33 (dk_at dksX1_isAim_0 1 rfl rfl)
theorem dX1_isAim_4 : decode cX1_isAim 4 = .ok (.aload_n 0, 1) := dk_42 (dk_at dksX1_isAim_0 4 rfl rfl)
theorem dX1_isAim_5 : decode cX1_isAim 5 = .ok (.getfield 33, 3) := dk_180 0 33 (dk_at dksX1_isAim_0 5 rfl rfl)
theorem dX1_isAim_8 : decode cX1_isAim 8 = .ok (.iload_n 1, 1) := dk_27 (dk_at dksX1_isAim_0 8 rfl rfl)
theorem dX1_isAim_9 : decode cX1_isAim 9 = .ok (.iload_n 2, 1) := dk_28 (dk_at dksX1_isAim_0 9 rfl rfl)
theorem dX1_isAim_10 : decode cX1_isAim 10 = .ok (.iload 4, 2) := dk_21 4 (dk_at dksX1_isAim_0 10 rfl rfl)
theorem dX1_isAim_12 : decode cX1_isAim 12 = .ok (.invokevirtual 185, 3) := dk_182 0 185 (dk_at dksX1_isAim_0 12 rfl rfl)
theorem dX1_isAim_15 : decode cX1_isAim 15 = .ok (.invokevirtual 208, 3) := dk_182 0 208 (dk_at dksX1_isAim_0 15 rfl rfl)
theorem dX1_isAim_18 : decode cX1_isAim 18 = .ok (.iload_n 3, 1) := dk_29 (dk_at dksX1_isAim_0 18 rfl rfl)
theorem dX1_isAim_19 : decode cX1_isAim 19 = .ok (.if_icmp .ne 7, 3) := dk_160 0 7 (dk_at dksX1_isAim_0 19 rfl rfl)
theorem dX1_isAim_22 : decode cX1_isAim 22 = .ok (.iconst 1, 1) := dk_4 (dk_at dksX1_isAim_0 22 rfl rfl)
theorem dX1_isAim_23 : decode cX1_isAim 23 = .ok (.goto 4, 3) := dk_167 0 4 (dk_at dksX1_isAim_1 0 rfl rfl)
theorem dX1_isAim_26 : decode cX1_isAim 26 = .ok (.iconst 0, 1) := dk_3 (dk_at dksX1_isAim_1 3 rfl rfl)
theorem dX1_isAim_27 : decode cX1_isAim 27 = .ok (.ireturn, 1) := dk_172 (dk_at dksX1_isAim_1 4 rfl rfl)
abbrev cX1_aims : ByteArray := prog_1_method_39_code
def yX1_aims : MethodName := ⟨RX1, "aims", "(III)I"⟩
def dkwX1_aims_3 : List UInt8 := [29, 182, 0, 211, 153, 0, 7, 4, 167, 0, 4, 3, 96, 54, 5, 132, 6, 1, 167, 255, 219, 21, 5, 172]
abbrev dktX1_aims_3 : List UInt8 := dkwX1_aims_3 ++ []
def dkwX1_aims_2 : List UInt8 := [54, 5, 3, 54, 6, 21, 6, 42, 180, 0, 98, 180, 0, 126, 162, 0, 31, 21, 5, 42, 27, 21, 6, 28]
abbrev dktX1_aims_2 : List UInt8 := dkwX1_aims_2 ++ dktX1_aims_3
def dkwX1_aims_1 : List UInt8 := [167, 0, 4, 3, 29, 182, 0, 178, 54, 4, 21, 4, 153, 0, 10, 42, 21, 4, 182, 0, 87, 172, 3]
abbrev dktX1_aims_1 : List UInt8 := dkwX1_aims_1 ++ dktX1_aims_2
def dkwX1_aims_0 : List UInt8 := [42, 182, 0, 73, 42, 42, 27, 182, 0, 150, 153, 0, 15, 42, 28, 182, 0, 133, 153, 0, 7, 4]
abbrev dktX1_aims_0 : List UInt8 := dkwX1_aims_0 ++ dktX1_aims_1
theorem dksX1_aims_0 : cX1_aims.data.toList.drop 0 = dktX1_aims_0 := by decide +kernel
theorem dksX1_aims_1 : cX1_aims.data.toList.drop 22 = dktX1_aims_1 := dk_seg dksX1_aims_0 22 rfl rfl
theorem dksX1_aims_2 : cX1_aims.data.toList.drop 45 = dktX1_aims_2 := dk_seg dksX1_aims_1 23 rfl rfl
theorem dksX1_aims_3 : cX1_aims.data.toList.drop 69 = dktX1_aims_3 := dk_seg dksX1_aims_2 24 rfl rfl
theorem dX1_aims_0 : decode cX1_aims 0 = .ok (.aload_n 0, 1) := dk_42 (dk_at dksX1_aims_0 0 rfl rfl)
theorem dX1_aims_1 : decode cX1_aims 1 = .ok (.invokevirtual 73, 3) := dk_182 0 73 (dk_at dksX1_aims_0 1 rfl rfl)
theorem dX1_aims_4 : decode cX1_aims 4 = .ok (.aload_n 0, 1) := dk_42 (dk_at dksX1_aims_0 4 rfl rfl)
theorem dX1_aims_5 : decode cX1_aims 5 = .ok (.aload_n 0, 1) := dk_42 (dk_at dksX1_aims_0 5 rfl rfl)
theorem dX1_aims_6 : decode cX1_aims 6 = .ok (.iload_n 1, 1) := dk_27 (dk_at dksX1_aims_0 6 rfl rfl)
theorem dX1_aims_7 : decode cX1_aims 7 = .ok (.invokevirtual 150, 3) := dk_182 0 150 (dk_at dksX1_aims_0 7 rfl rfl)
theorem dX1_aims_10 : decode cX1_aims 10 = .ok (.ifCond .eq 15, 3) := dk_153 0 15 (dk_at dksX1_aims_0 10 rfl rfl)
theorem dX1_aims_13 : decode cX1_aims 13 = .ok (.aload_n 0, 1) := dk_42 (dk_at dksX1_aims_0 13 rfl rfl)
theorem dX1_aims_14 : decode cX1_aims 14 = .ok (.iload_n 2, 1) := dk_28 (dk_at dksX1_aims_0 14 rfl rfl)
theorem dX1_aims_15 : decode cX1_aims 15 = .ok (.invokevirtual 133, 3) := dk_182 0 133 (dk_at dksX1_aims_0 15 rfl rfl)
theorem dX1_aims_18 : decode cX1_aims 18 = .ok (.ifCond .eq 7, 3) := dk_153 0 7 (dk_at dksX1_aims_0 18 rfl rfl)
theorem dX1_aims_21 : decode cX1_aims 21 = .ok (.iconst 1, 1) := dk_4 (dk_at dksX1_aims_0 21 rfl rfl)
theorem dX1_aims_22 : decode cX1_aims 22 = .ok (.goto 4, 3) := dk_167 0 4 (dk_at dksX1_aims_1 0 rfl rfl)
theorem dX1_aims_25 : decode cX1_aims 25 = .ok (.iconst 0, 1) := dk_3 (dk_at dksX1_aims_1 3 rfl rfl)
theorem dX1_aims_26 : decode cX1_aims 26 = .ok (.iload_n 3, 1) := dk_29 (dk_at dksX1_aims_1 4 rfl rfl)
theorem dX1_aims_27 : decode cX1_aims 27 = .ok (.invokevirtual 178, 3) := dk_182 0 178 (dk_at dksX1_aims_1 5 rfl rfl)
theorem dX1_aims_30 : decode cX1_aims 30 = .ok (.istore 4, 2) := dk_54 4 (dk_at dksX1_aims_1 8 rfl rfl)
theorem dX1_aims_32 : decode cX1_aims 32 = .ok (.iload 4, 2) := dk_21 4 (dk_at dksX1_aims_1 10 rfl rfl)
theorem dX1_aims_34 : decode cX1_aims 34 = .ok (.ifCond .eq 10, 3) := dk_153 0 10 (dk_at dksX1_aims_1 12 rfl rfl)
theorem dX1_aims_37 : decode cX1_aims 37 = .ok (.aload_n 0, 1) := dk_42 (dk_at dksX1_aims_1 15 rfl rfl)
theorem dX1_aims_38 : decode cX1_aims 38 = .ok (.iload 4, 2) := dk_21 4 (dk_at dksX1_aims_1 16 rfl rfl)
theorem dX1_aims_40 : decode cX1_aims 40 = .ok (.invokevirtual 87, 3) := dk_182 0 87 (dk_at dksX1_aims_1 18 rfl rfl)
theorem dX1_aims_43 : decode cX1_aims 43 = .ok (.ireturn, 1) := dk_172 (dk_at dksX1_aims_1 21 rfl rfl)
theorem dX1_aims_44 : decode cX1_aims 44 = .ok (.iconst 0, 1) := dk_3 (dk_at dksX1_aims_1 22 rfl rfl)
theorem dX1_aims_45 : decode cX1_aims 45 = .ok (.istore 5, 2) := dk_54 5 (dk_at dksX1_aims_2 0 rfl rfl)
theorem dX1_aims_47 : decode cX1_aims 47 = .ok (.iconst 0, 1) := dk_3 (dk_at dksX1_aims_2 2 rfl rfl)
theorem dX1_aims_48 : decode cX1_aims 48 = .ok (.istore 6, 2) := dk_54 6 (dk_at dksX1_aims_2 3 rfl rfl)
theorem dX1_aims_50 : decode cX1_aims 50 = .ok (.iload 6, 2) := dk_21 6 (dk_at dksX1_aims_2 5 rfl rfl)
theorem dX1_aims_52 : decode cX1_aims 52 = .ok (.aload_n 0, 1) := dk_42 (dk_at dksX1_aims_2 7 rfl rfl)
theorem dX1_aims_53 : decode cX1_aims 53 = .ok (.getfield 98, 3) := dk_180 0 98 (dk_at dksX1_aims_2 8 rfl rfl)
theorem dX1_aims_56 : decode cX1_aims 56 = .ok (.getfield 126, 3) := dk_180 0 126 (dk_at dksX1_aims_2 11 rfl rfl)
theorem dX1_aims_59 : decode cX1_aims 59 = .ok (.if_icmp .ge 31, 3) := dk_162 0 31 (dk_at dksX1_aims_2 14 rfl rfl)
theorem dX1_aims_62 : decode cX1_aims 62 = .ok (.iload 5, 2) := dk_21 5 (dk_at dksX1_aims_2 17 rfl rfl)
theorem dX1_aims_64 : decode cX1_aims 64 = .ok (.aload_n 0, 1) := dk_42 (dk_at dksX1_aims_2 19 rfl rfl)
theorem dX1_aims_65 : decode cX1_aims 65 = .ok (.iload_n 1, 1) := dk_27 (dk_at dksX1_aims_2 20 rfl rfl)
theorem dX1_aims_66 : decode cX1_aims 66 = .ok (.iload 6, 2) := dk_21 6 (dk_at dksX1_aims_2 21 rfl rfl)
theorem dX1_aims_68 : decode cX1_aims 68 = .ok (.iload_n 2, 1) := dk_28 (dk_at dksX1_aims_2 23 rfl rfl)
theorem dX1_aims_69 : decode cX1_aims 69 = .ok (.iload_n 3, 1) := dk_29 (dk_at dksX1_aims_3 0 rfl rfl)
theorem dX1_aims_70 : decode cX1_aims 70 = .ok (.invokevirtual 211, 3) := dk_182 0 211 (dk_at dksX1_aims_3 1 rfl rfl)
theorem dX1_aims_73 : decode cX1_aims 73 = .ok (.ifCond .eq 7, 3) := dk_153 0 7 (dk_at dksX1_aims_3 4 rfl rfl)
theorem dX1_aims_76 : decode cX1_aims 76 = .ok (.iconst 1, 1) := dk_4 (dk_at dksX1_aims_3 7 rfl rfl)
theorem dX1_aims_77 : decode cX1_aims 77 = .ok (.goto 4, 3) := dk_167 0 4 (dk_at dksX1_aims_3 8 rfl rfl)
theorem dX1_aims_80 : decode cX1_aims 80 = .ok (.iconst 0, 1) := dk_3 (dk_at dksX1_aims_3 11 rfl rfl)
theorem dX1_aims_81 : decode cX1_aims 81 = .ok (.iadd, 1) := dk_96 (dk_at dksX1_aims_3 12 rfl rfl)
theorem dX1_aims_82 : decode cX1_aims 82 = .ok (.istore 5, 2) := dk_54 5 (dk_at dksX1_aims_3 13 rfl rfl)
theorem dX1_aims_84 : decode cX1_aims 84 = .ok (.iinc 6 1, 3) := dk_132 6 1 (dk_at dksX1_aims_3 15 rfl rfl)
theorem dX1_aims_87 : decode cX1_aims 87 = .ok (.goto (-37), 3) := dk_167 255 219 (dk_at dksX1_aims_3 18 rfl rfl)
theorem dX1_aims_90 : decode cX1_aims 90 = .ok (.iload 5, 2) := dk_21 5 (dk_at dksX1_aims_3 21 rfl rfl)
theorem dX1_aims_92 : decode cX1_aims 92 = .ok (.ireturn, 1) := dk_172 (dk_at dksX1_aims_3 23 rfl rfl)
abbrev cX1_mirrorFor : ByteArray := prog_1_method_41_code
def yX1_mirrorFor : MethodName := ⟨RX1, "mirrorFor", "(II)I"⟩
def dkwX1_mirrorFor_2 : List UInt8 := [182, 0, 219, 158, 0, 6, 21, 4, 172, 132, 4, 1, 167, 255, 226, 16, 254, 172]
abbrev dktX1_mirrorFor_2 : List UInt8 := dkwX1_mirrorFor_2 ++ []
def dkwX1_mirrorFor_1 : List UInt8 := [172, 3, 54, 4, 21, 4, 42, 180, 0, 98, 180, 0, 126, 162, 0, 24, 42, 27, 21, 4, 28, 28]
abbrev dktX1_mirrorFor_1 : List UInt8 := dkwX1_mirrorFor_1 ++ dktX1_mirrorFor_2
def dkwX1_mirrorFor_0 : List UInt8 := [42, 182, 0, 73, 42, 42, 27, 182, 0, 150, 28, 182, 0, 178, 62, 29, 153, 0, 9, 42, 29, 182, 0, 87]
abbrev dktX1_mirrorFor_0 : List UInt8 := dkwX1_mirrorFor_0 ++ dktX1_mirrorFor_1
theorem dksX1_mirrorFor_0 : cX1_mirrorFor.data.toList.drop 0 = dktX1_mirrorFor_0 := by decide +kernel
theorem dksX1_mirrorFor_1 : cX1_mirrorFor.data.toList.drop 24 = dktX1_mirrorFor_1 := dk_seg dksX1_mirrorFor_0 24 rfl rfl
theorem dksX1_mirrorFor_2 : cX1_mirrorFor.data.toList.drop 46 = dktX1_mirrorFor_2 := dk_seg dksX1_mirrorFor_1 22 rfl rfl
theorem dX1_mirrorFor_0 : decode cX1_mirrorFor 0 = .ok (.aload_n 0, 1) := dk_42 (dk_at dksX1_mirrorFor_0 0 rfl rfl)
theorem dX1_mirrorFor_1 : decode cX1_mirrorFor 1 = .ok (.invokevirtual 73, 3) := dk_182 0 73 (dk_at dksX1_mirrorFor_0 1 rfl rfl)
theorem dX1_mirrorFor_4 : decode cX1_mirrorFor 4 = .ok (.aload_n 0, 1) := dk_42 (dk_at dksX1_mirrorFor_0 4 rfl rfl)
theorem dX1_mirrorFor_5 : decode cX1_mirrorFor 5 = .ok (.aload_n 0, 1) := dk_42 (dk_at dksX1_mirrorFor_0 5 rfl rfl)
theorem dX1_mirrorFor_6 : decode cX1_mirrorFor 6 = .ok (.iload_n 1, 1) := dk_27 (dk_at dksX1_mirrorFor_0 6 rfl rfl)
theorem dX1_mirrorFor_7 : decode cX1_mirrorFor 7 = .ok (.invokevirtual 150, 3) := dk_182 0 150 (dk_at dksX1_mirrorFor_0 7 rfl rfl)
theorem dX1_mirrorFor_10 : decode cX1_mirrorFor 10 = .ok (.iload_n 2, 1) := dk_28 (dk_at dksX1_mirrorFor_0 10 rfl rfl)
theorem dX1_mirrorFor_11 : decode cX1_mirrorFor 11 = .ok (.invokevirtual 178, 3) := dk_182 0 178 (dk_at dksX1_mirrorFor_0 11 rfl rfl)
theorem dX1_mirrorFor_14 : decode cX1_mirrorFor 14 = .ok (.istore_n 3, 1) := dk_62 (dk_at dksX1_mirrorFor_0 14 rfl rfl)
theorem dX1_mirrorFor_15 : decode cX1_mirrorFor 15 = .ok (.iload_n 3, 1) := dk_29 (dk_at dksX1_mirrorFor_0 15 rfl rfl)
theorem dX1_mirrorFor_16 : decode cX1_mirrorFor 16 = .ok (.ifCond .eq 9, 3) := dk_153 0 9 (dk_at dksX1_mirrorFor_0 16 rfl rfl)
theorem dX1_mirrorFor_19 : decode cX1_mirrorFor 19 = .ok (.aload_n 0, 1) := dk_42 (dk_at dksX1_mirrorFor_0 19 rfl rfl)
theorem dX1_mirrorFor_20 : decode cX1_mirrorFor 20 = .ok (.iload_n 3, 1) := dk_29 (dk_at dksX1_mirrorFor_0 20 rfl rfl)
theorem dX1_mirrorFor_21 : decode cX1_mirrorFor 21 = .ok (.invokevirtual 87, 3) := dk_182 0 87 (dk_at dksX1_mirrorFor_0 21 rfl rfl)
theorem dX1_mirrorFor_24 : decode cX1_mirrorFor 24 = .ok (.ireturn, 1) := dk_172 (dk_at dksX1_mirrorFor_1 0 rfl rfl)
theorem dX1_mirrorFor_25 : decode cX1_mirrorFor 25 = .ok (.iconst 0, 1) := dk_3 (dk_at dksX1_mirrorFor_1 1 rfl rfl)
theorem dX1_mirrorFor_26 : decode cX1_mirrorFor 26 = .ok (.istore 4, 2) := dk_54 4 (dk_at dksX1_mirrorFor_1 2 rfl rfl)
theorem dX1_mirrorFor_28 : decode cX1_mirrorFor 28 = .ok (.iload 4, 2) := dk_21 4 (dk_at dksX1_mirrorFor_1 4 rfl rfl)
theorem dX1_mirrorFor_30 : decode cX1_mirrorFor 30 = .ok (.aload_n 0, 1) := dk_42 (dk_at dksX1_mirrorFor_1 6 rfl rfl)
theorem dX1_mirrorFor_31 : decode cX1_mirrorFor 31 = .ok (.getfield 98, 3) := dk_180 0 98 (dk_at dksX1_mirrorFor_1 7 rfl rfl)
theorem dX1_mirrorFor_34 : decode cX1_mirrorFor 34 = .ok (.getfield 126, 3) := dk_180 0 126 (dk_at dksX1_mirrorFor_1 10 rfl rfl)
theorem dX1_mirrorFor_37 : decode cX1_mirrorFor 37 = .ok (.if_icmp .ge 24, 3) := dk_162 0 24 (dk_at dksX1_mirrorFor_1 13 rfl rfl)
theorem dX1_mirrorFor_40 : decode cX1_mirrorFor 40 = .ok (.aload_n 0, 1) := dk_42 (dk_at dksX1_mirrorFor_1 16 rfl rfl)
theorem dX1_mirrorFor_41 : decode cX1_mirrorFor 41 = .ok (.iload_n 1, 1) := dk_27 (dk_at dksX1_mirrorFor_1 17 rfl rfl)
theorem dX1_mirrorFor_42 : decode cX1_mirrorFor 42 = .ok (.iload 4, 2) := dk_21 4 (dk_at dksX1_mirrorFor_1 18 rfl rfl)
theorem dX1_mirrorFor_44 : decode cX1_mirrorFor 44 = .ok (.iload_n 2, 1) := dk_28 (dk_at dksX1_mirrorFor_1 20 rfl rfl)
theorem dX1_mirrorFor_45 : decode cX1_mirrorFor 45 = .ok (.iload_n 2, 1) := dk_28 (dk_at dksX1_mirrorFor_1 21 rfl rfl)
theorem dX1_mirrorFor_46 : decode cX1_mirrorFor 46 = .ok (.invokevirtual 219, 3) := dk_182 0 219 (dk_at dksX1_mirrorFor_2 0 rfl rfl)
theorem dX1_mirrorFor_49 : decode cX1_mirrorFor 49 = .ok (.ifCond .le 6, 3) := dk_158 0 6 (dk_at dksX1_mirrorFor_2 3 rfl rfl)
theorem dX1_mirrorFor_52 : decode cX1_mirrorFor 52 = .ok (.iload 4, 2) := dk_21 4 (dk_at dksX1_mirrorFor_2 6 rfl rfl)
theorem dX1_mirrorFor_54 : decode cX1_mirrorFor 54 = .ok (.ireturn, 1) := dk_172 (dk_at dksX1_mirrorFor_2 8 rfl rfl)
theorem dX1_mirrorFor_55 : decode cX1_mirrorFor 55 = .ok (.iinc 4 1, 3) := dk_132 4 1 (dk_at dksX1_mirrorFor_2 9 rfl rfl)
theorem dX1_mirrorFor_58 : decode cX1_mirrorFor 58 = .ok (.goto (-30), 3) := dk_167 255 226 (dk_at dksX1_mirrorFor_2 12 rfl rfl)
theorem dX1_mirrorFor_61 : decode cX1_mirrorFor 61 = .ok (.bipush (-2), 2) := dk_16 254 (dk_at dksX1_mirrorFor_2 15 rfl rfl)
theorem dX1_mirrorFor_63 : decode cX1_mirrorFor 63 = .ok (.ireturn, 1) := dk_172 (dk_at dksX1_mirrorFor_2 17 rfl rfl)
abbrev cX1_mirrored : ByteArray := prog_1_method_40_code
def yX1_mirrored : MethodName := ⟨RX1, "mirrored", "(IIII)I"⟩
def dkwX1_mirrored_2 : List UInt8 := [167, 0, 4, 3, 96, 54, 5, 132, 6, 1, 167, 255, 222, 21, 5, 172]
abbrev dktX1_mirrored_2 : List UInt8 := dkwX1_mirrored_2 ++ []
def dkwX1_mirrored_1 : List UInt8 := [21, 6, 21, 4, 163, 0, 33, 21, 5, 42, 180, 0, 40, 27, 21, 6, 3, 182, 0, 202, 153, 0, 7, 4]
abbrev dktX1_mirrored_1 : List UInt8 := dkwX1_mirrored_1 ++ dktX1_mirrored_2
def dkwX1_mirrored_0 : List UInt8 := [42, 180, 0, 40, 42, 180, 0, 33, 182, 0, 215, 180, 0, 169, 27, 28, 79, 3, 54, 5, 29, 54, 6]
abbrev dktX1_mirrored_0 : List UInt8 := dkwX1_mirrored_0 ++ dktX1_mirrored_1
theorem dksX1_mirrored_0 : cX1_mirrored.data.toList.drop 0 = dktX1_mirrored_0 := by decide +kernel
theorem dksX1_mirrored_1 : cX1_mirrored.data.toList.drop 23 = dktX1_mirrored_1 := dk_seg dksX1_mirrored_0 23 rfl rfl
theorem dksX1_mirrored_2 : cX1_mirrored.data.toList.drop 47 = dktX1_mirrored_2 := dk_seg dksX1_mirrored_1 24 rfl rfl
theorem dX1_mirrored_0 : decode cX1_mirrored 0 = .ok (.aload_n 0, 1) := dk_42 (dk_at dksX1_mirrored_0 0 rfl rfl)
theorem dX1_mirrored_1 : decode cX1_mirrored 1 = .ok (.getfield 40, 3) := dk_180 0 40 (dk_at dksX1_mirrored_0 1 rfl rfl)
theorem dX1_mirrored_4 : decode cX1_mirrored 4 = .ok (.aload_n 0, 1) := dk_42 (dk_at dksX1_mirrored_0 4 rfl rfl)
theorem dX1_mirrored_5 : decode cX1_mirrored 5 = .ok (.getfield 33, 3) := dk_180 0 33 (dk_at dksX1_mirrored_0 5 rfl rfl)
theorem dX1_mirrored_8 : decode cX1_mirrored 8 = .ok (.invokevirtual 215, 3) := dk_182 0 215 (dk_at dksX1_mirrored_0 8 rfl rfl)
theorem dX1_mirrored_11 : decode cX1_mirrored 11 = .ok (.getfield 169, 3) := dk_180 0 169 (dk_at dksX1_mirrored_0 11 rfl rfl)
theorem dX1_mirrored_14 : decode cX1_mirrored 14 = .ok (.iload_n 1, 1) := dk_27 (dk_at dksX1_mirrored_0 14 rfl rfl)
theorem dX1_mirrored_15 : decode cX1_mirrored 15 = .ok (.iload_n 2, 1) := dk_28 (dk_at dksX1_mirrored_0 15 rfl rfl)
theorem dX1_mirrored_16 : decode cX1_mirrored 16 = .ok (.iastore, 1) := dk_79 (dk_at dksX1_mirrored_0 16 rfl rfl)
theorem dX1_mirrored_17 : decode cX1_mirrored 17 = .ok (.iconst 0, 1) := dk_3 (dk_at dksX1_mirrored_0 17 rfl rfl)
theorem dX1_mirrored_18 : decode cX1_mirrored 18 = .ok (.istore 5, 2) := dk_54 5 (dk_at dksX1_mirrored_0 18 rfl rfl)
theorem dX1_mirrored_20 : decode cX1_mirrored 20 = .ok (.iload_n 3, 1) := dk_29 (dk_at dksX1_mirrored_0 20 rfl rfl)
theorem dX1_mirrored_21 : decode cX1_mirrored 21 = .ok (.istore 6, 2) := dk_54 6 (dk_at dksX1_mirrored_0 21 rfl rfl)
theorem dX1_mirrored_23 : decode cX1_mirrored 23 = .ok (.iload 6, 2) := dk_21 6 (dk_at dksX1_mirrored_1 0 rfl rfl)
theorem dX1_mirrored_25 : decode cX1_mirrored 25 = .ok (.iload 4, 2) := dk_21 4 (dk_at dksX1_mirrored_1 2 rfl rfl)
theorem dX1_mirrored_27 : decode cX1_mirrored 27 = .ok (.if_icmp .gt 33, 3) := dk_163 0 33 (dk_at dksX1_mirrored_1 4 rfl rfl)
theorem dX1_mirrored_30 : decode cX1_mirrored 30 = .ok (.iload 5, 2) := dk_21 5 (dk_at dksX1_mirrored_1 7 rfl rfl)
theorem dX1_mirrored_32 : decode cX1_mirrored 32 = .ok (.aload_n 0, 1) := dk_42 (dk_at dksX1_mirrored_1 9 rfl rfl)
theorem dX1_mirrored_33 : decode cX1_mirrored 33 = .ok (.getfield 40, 3) := dk_180 0 40 (dk_at dksX1_mirrored_1 10 rfl rfl)
theorem dX1_mirrored_36 : decode cX1_mirrored 36 = .ok (.iload_n 1, 1) := dk_27 (dk_at dksX1_mirrored_1 13 rfl rfl)
theorem dX1_mirrored_37 : decode cX1_mirrored 37 = .ok (.iload 6, 2) := dk_21 6 (dk_at dksX1_mirrored_1 14 rfl rfl)
theorem dX1_mirrored_39 : decode cX1_mirrored 39 = .ok (.iconst 0, 1) := dk_3 (dk_at dksX1_mirrored_1 16 rfl rfl)
theorem dX1_mirrored_40 : decode cX1_mirrored 40 = .ok (.invokevirtual 202, 3) := dk_182 0 202 (dk_at dksX1_mirrored_1 17 rfl rfl)
theorem dX1_mirrored_43 : decode cX1_mirrored 43 = .ok (.ifCond .eq 7, 3) := dk_153 0 7 (dk_at dksX1_mirrored_1 20 rfl rfl)
theorem dX1_mirrored_46 : decode cX1_mirrored 46 = .ok (.iconst 1, 1) := dk_4 (dk_at dksX1_mirrored_1 23 rfl rfl)
theorem dX1_mirrored_47 : decode cX1_mirrored 47 = .ok (.goto 4, 3) := dk_167 0 4 (dk_at dksX1_mirrored_2 0 rfl rfl)
theorem dX1_mirrored_50 : decode cX1_mirrored 50 = .ok (.iconst 0, 1) := dk_3 (dk_at dksX1_mirrored_2 3 rfl rfl)
theorem dX1_mirrored_51 : decode cX1_mirrored 51 = .ok (.iadd, 1) := dk_96 (dk_at dksX1_mirrored_2 4 rfl rfl)
theorem dX1_mirrored_52 : decode cX1_mirrored 52 = .ok (.istore 5, 2) := dk_54 5 (dk_at dksX1_mirrored_2 5 rfl rfl)
theorem dX1_mirrored_54 : decode cX1_mirrored 54 = .ok (.iinc 6 1, 3) := dk_132 6 1 (dk_at dksX1_mirrored_2 7 rfl rfl)
theorem dX1_mirrored_57 : decode cX1_mirrored 57 = .ok (.goto (-34), 3) := dk_167 255 222 (dk_at dksX1_mirrored_2 10 rfl rfl)
theorem dX1_mirrored_60 : decode cX1_mirrored 60 = .ok (.iload 5, 2) := dk_21 5 (dk_at dksX1_mirrored_2 13 rfl rfl)
theorem dX1_mirrored_62 : decode cX1_mirrored 62 = .ok (.ireturn, 1) := dk_172 (dk_at dksX1_mirrored_2 15 rfl rfl)
abbrev cX1_mirrorBest : ByteArray := prog_1_method_42_code
def yX1_mirrorBest : MethodName := ⟨RX1, "mirrorBest", "(I)I"⟩
def dkwX1_mirrorBest_2 : List UInt8 := [182, 0, 219, 164, 0, 5, 29, 61, 132, 3, 1, 167, 255, 219, 28, 172]
abbrev dktX1_mirrorBest_2 : List UInt8 := dkwX1_mirrorBest_2 ++ []
def dkwX1_mirrorBest_1 : List UInt8 := [180, 0, 98, 180, 0, 126, 162, 0, 32, 42, 27, 29, 3, 16, 99, 182, 0, 219, 42, 27, 28, 3, 16, 99]
abbrev dktX1_mirrorBest_1 : List UInt8 := dkwX1_mirrorBest_1 ++ dktX1_mirrorBest_2
def dkwX1_mirrorBest_0 : List UInt8 := [42, 182, 0, 73, 42, 27, 182, 0, 150, 154, 0, 9, 42, 4, 182, 0, 87, 172, 3, 61, 4, 62, 29, 42]
abbrev dktX1_mirrorBest_0 : List UInt8 := dkwX1_mirrorBest_0 ++ dktX1_mirrorBest_1
theorem dksX1_mirrorBest_0 : cX1_mirrorBest.data.toList.drop 0 = dktX1_mirrorBest_0 := by decide +kernel
theorem dksX1_mirrorBest_1 : cX1_mirrorBest.data.toList.drop 24 = dktX1_mirrorBest_1 := dk_seg dksX1_mirrorBest_0 24 rfl rfl
theorem dksX1_mirrorBest_2 : cX1_mirrorBest.data.toList.drop 48 = dktX1_mirrorBest_2 := dk_seg dksX1_mirrorBest_1 24 rfl rfl
theorem dX1_mirrorBest_0 : decode cX1_mirrorBest 0 = .ok (.aload_n 0, 1) := dk_42 (dk_at dksX1_mirrorBest_0 0 rfl rfl)
theorem dX1_mirrorBest_1 : decode cX1_mirrorBest 1 = .ok (.invokevirtual 73, 3) := dk_182 0 73 (dk_at dksX1_mirrorBest_0 1 rfl rfl)
theorem dX1_mirrorBest_4 : decode cX1_mirrorBest 4 = .ok (.aload_n 0, 1) := dk_42 (dk_at dksX1_mirrorBest_0 4 rfl rfl)
theorem dX1_mirrorBest_5 : decode cX1_mirrorBest 5 = .ok (.iload_n 1, 1) := dk_27 (dk_at dksX1_mirrorBest_0 5 rfl rfl)
theorem dX1_mirrorBest_6 : decode cX1_mirrorBest 6 = .ok (.invokevirtual 150, 3) := dk_182 0 150 (dk_at dksX1_mirrorBest_0 6 rfl rfl)
theorem dX1_mirrorBest_9 : decode cX1_mirrorBest 9 = .ok (.ifCond .ne 9, 3) := dk_154 0 9 (dk_at dksX1_mirrorBest_0 9 rfl rfl)
theorem dX1_mirrorBest_12 : decode cX1_mirrorBest 12 = .ok (.aload_n 0, 1) := dk_42 (dk_at dksX1_mirrorBest_0 12 rfl rfl)
theorem dX1_mirrorBest_13 : decode cX1_mirrorBest 13 = .ok (.iconst 1, 1) := dk_4 (dk_at dksX1_mirrorBest_0 13 rfl rfl)
theorem dX1_mirrorBest_14 : decode cX1_mirrorBest 14 = .ok (.invokevirtual 87, 3) := dk_182 0 87 (dk_at dksX1_mirrorBest_0 14 rfl rfl)
theorem dX1_mirrorBest_17 : decode cX1_mirrorBest 17 = .ok (.ireturn, 1) := dk_172 (dk_at dksX1_mirrorBest_0 17 rfl rfl)
theorem dX1_mirrorBest_18 : decode cX1_mirrorBest 18 = .ok (.iconst 0, 1) := dk_3 (dk_at dksX1_mirrorBest_0 18 rfl rfl)
theorem dX1_mirrorBest_19 : decode cX1_mirrorBest 19 = .ok (.istore_n 2, 1) := dk_61 (dk_at dksX1_mirrorBest_0 19 rfl rfl)
theorem dX1_mirrorBest_20 : decode cX1_mirrorBest 20 = .ok (.iconst 1, 1) := dk_4 (dk_at dksX1_mirrorBest_0 20 rfl rfl)
theorem dX1_mirrorBest_21 : decode cX1_mirrorBest 21 = .ok (.istore_n 3, 1) := dk_62 (dk_at dksX1_mirrorBest_0 21 rfl rfl)
theorem dX1_mirrorBest_22 : decode cX1_mirrorBest 22 = .ok (.iload_n 3, 1) := dk_29 (dk_at dksX1_mirrorBest_0 22 rfl rfl)
theorem dX1_mirrorBest_23 : decode cX1_mirrorBest 23 = .ok (.aload_n 0, 1) := dk_42 (dk_at dksX1_mirrorBest_0 23 rfl rfl)
theorem dX1_mirrorBest_24 : decode cX1_mirrorBest 24 = .ok (.getfield 98, 3) := dk_180 0 98 (dk_at dksX1_mirrorBest_1 0 rfl rfl)
theorem dX1_mirrorBest_27 : decode cX1_mirrorBest 27 = .ok (.getfield 126, 3) := dk_180 0 126 (dk_at dksX1_mirrorBest_1 3 rfl rfl)
theorem dX1_mirrorBest_30 : decode cX1_mirrorBest 30 = .ok (.if_icmp .ge 32, 3) := dk_162 0 32 (dk_at dksX1_mirrorBest_1 6 rfl rfl)
theorem dX1_mirrorBest_33 : decode cX1_mirrorBest 33 = .ok (.aload_n 0, 1) := dk_42 (dk_at dksX1_mirrorBest_1 9 rfl rfl)
theorem dX1_mirrorBest_34 : decode cX1_mirrorBest 34 = .ok (.iload_n 1, 1) := dk_27 (dk_at dksX1_mirrorBest_1 10 rfl rfl)
theorem dX1_mirrorBest_35 : decode cX1_mirrorBest 35 = .ok (.iload_n 3, 1) := dk_29 (dk_at dksX1_mirrorBest_1 11 rfl rfl)
theorem dX1_mirrorBest_36 : decode cX1_mirrorBest 36 = .ok (.iconst 0, 1) := dk_3 (dk_at dksX1_mirrorBest_1 12 rfl rfl)
theorem dX1_mirrorBest_37 : decode cX1_mirrorBest 37 = .ok (.bipush 99, 2) := dk_16 99 (dk_at dksX1_mirrorBest_1 13 rfl rfl)
theorem dX1_mirrorBest_39 : decode cX1_mirrorBest 39 = .ok (.invokevirtual 219, 3) := dk_182 0 219 (dk_at dksX1_mirrorBest_1 15 rfl rfl)
theorem dX1_mirrorBest_42 : decode cX1_mirrorBest 42 = .ok (.aload_n 0, 1) := dk_42 (dk_at dksX1_mirrorBest_1 18 rfl rfl)
theorem dX1_mirrorBest_43 : decode cX1_mirrorBest 43 = .ok (.iload_n 1, 1) := dk_27 (dk_at dksX1_mirrorBest_1 19 rfl rfl)
theorem dX1_mirrorBest_44 : decode cX1_mirrorBest 44 = .ok (.iload_n 2, 1) := dk_28 (dk_at dksX1_mirrorBest_1 20 rfl rfl)
theorem dX1_mirrorBest_45 : decode cX1_mirrorBest 45 = .ok (.iconst 0, 1) := dk_3 (dk_at dksX1_mirrorBest_1 21 rfl rfl)
theorem dX1_mirrorBest_46 : decode cX1_mirrorBest 46 = .ok (.bipush 99, 2) := dk_16 99 (dk_at dksX1_mirrorBest_1 22 rfl rfl)
theorem dX1_mirrorBest_48 : decode cX1_mirrorBest 48 = .ok (.invokevirtual 219, 3) := dk_182 0 219 (dk_at dksX1_mirrorBest_2 0 rfl rfl)
theorem dX1_mirrorBest_51 : decode cX1_mirrorBest 51 = .ok (.if_icmp .le 5, 3) := dk_164 0 5 (dk_at dksX1_mirrorBest_2 3 rfl rfl)
theorem dX1_mirrorBest_54 : decode cX1_mirrorBest 54 = .ok (.iload_n 3, 1) := dk_29 (dk_at dksX1_mirrorBest_2 6 rfl rfl)
theorem dX1_mirrorBest_55 : decode cX1_mirrorBest 55 = .ok (.istore_n 2, 1) := dk_61 (dk_at dksX1_mirrorBest_2 7 rfl rfl)
theorem dX1_mirrorBest_56 : decode cX1_mirrorBest 56 = .ok (.iinc 3 1, 3) := dk_132 3 1 (dk_at dksX1_mirrorBest_2 8 rfl rfl)
theorem dX1_mirrorBest_59 : decode cX1_mirrorBest 59 = .ok (.goto (-37), 3) := dk_167 255 219 (dk_at dksX1_mirrorBest_2 11 rfl rfl)
theorem dX1_mirrorBest_62 : decode cX1_mirrorBest 62 = .ok (.iload_n 2, 1) := dk_28 (dk_at dksX1_mirrorBest_2 14 rfl rfl)
theorem dX1_mirrorBest_63 : decode cX1_mirrorBest 63 = .ok (.ireturn, 1) := dk_172 (dk_at dksX1_mirrorBest_2 15 rfl rfl)
abbrev cX1_slipFor : ByteArray := prog_1_method_43_code
def yX1_slipFor : MethodName := ⟨RX1, "slipFor", "(II)I"⟩
def dkwX1_slipFor_3 : List UInt8 := [132, 4, 1, 167, 255, 212, 16, 254, 172]
abbrev dktX1_slipFor_3 : List UInt8 := dkwX1_slipFor_3 ++ []
def dkwX1_slipFor_2 : List UInt8 := [180, 0, 163, 27, 21, 4, 79, 42, 180, 0, 40, 27, 28, 3, 182, 0, 202, 153, 0, 6, 21, 4, 172]
abbrev dktX1_slipFor_2 : List UInt8 := dkwX1_slipFor_2 ++ dktX1_slipFor_3
def dkwX1_slipFor_1 : List UInt8 := [172, 3, 54, 4, 21, 4, 16, 39, 163, 0, 43, 42, 180, 0, 40, 42, 180, 0, 33, 182, 0, 215]
abbrev dktX1_slipFor_1 : List UInt8 := dkwX1_slipFor_1 ++ dktX1_slipFor_2
def dkwX1_slipFor_0 : List UInt8 := [42, 182, 0, 73, 42, 42, 27, 182, 0, 150, 28, 182, 0, 178, 62, 29, 153, 0, 9, 42, 29, 182, 0, 87]
abbrev dktX1_slipFor_0 : List UInt8 := dkwX1_slipFor_0 ++ dktX1_slipFor_1
theorem dksX1_slipFor_0 : cX1_slipFor.data.toList.drop 0 = dktX1_slipFor_0 := by decide +kernel
theorem dksX1_slipFor_1 : cX1_slipFor.data.toList.drop 24 = dktX1_slipFor_1 := dk_seg dksX1_slipFor_0 24 rfl rfl
theorem dksX1_slipFor_2 : cX1_slipFor.data.toList.drop 46 = dktX1_slipFor_2 := dk_seg dksX1_slipFor_1 22 rfl rfl
theorem dksX1_slipFor_3 : cX1_slipFor.data.toList.drop 69 = dktX1_slipFor_3 := dk_seg dksX1_slipFor_2 23 rfl rfl
theorem dX1_slipFor_0 : decode cX1_slipFor 0 = .ok (.aload_n 0, 1) := dk_42 (dk_at dksX1_slipFor_0 0 rfl rfl)
theorem dX1_slipFor_1 : decode cX1_slipFor 1 = .ok (.invokevirtual 73, 3) := dk_182 0 73 (dk_at dksX1_slipFor_0 1 rfl rfl)
theorem dX1_slipFor_4 : decode cX1_slipFor 4 = .ok (.aload_n 0, 1) := dk_42 (dk_at dksX1_slipFor_0 4 rfl rfl)
theorem dX1_slipFor_5 : decode cX1_slipFor 5 = .ok (.aload_n 0, 1) := dk_42 (dk_at dksX1_slipFor_0 5 rfl rfl)
theorem dX1_slipFor_6 : decode cX1_slipFor 6 = .ok (.iload_n 1, 1) := dk_27 (dk_at dksX1_slipFor_0 6 rfl rfl)
theorem dX1_slipFor_7 : decode cX1_slipFor 7 = .ok (.invokevirtual 150, 3) := dk_182 0 150 (dk_at dksX1_slipFor_0 7 rfl rfl)
theorem dX1_slipFor_10 : decode cX1_slipFor 10 = .ok (.iload_n 2, 1) := dk_28 (dk_at dksX1_slipFor_0 10 rfl rfl)
theorem dX1_slipFor_11 : decode cX1_slipFor 11 = .ok (.invokevirtual 178, 3) := dk_182 0 178 (dk_at dksX1_slipFor_0 11 rfl rfl)
theorem dX1_slipFor_14 : decode cX1_slipFor 14 = .ok (.istore_n 3, 1) := dk_62 (dk_at dksX1_slipFor_0 14 rfl rfl)
theorem dX1_slipFor_15 : decode cX1_slipFor 15 = .ok (.iload_n 3, 1) := dk_29 (dk_at dksX1_slipFor_0 15 rfl rfl)
theorem dX1_slipFor_16 : decode cX1_slipFor 16 = .ok (.ifCond .eq 9, 3) := dk_153 0 9 (dk_at dksX1_slipFor_0 16 rfl rfl)
theorem dX1_slipFor_19 : decode cX1_slipFor 19 = .ok (.aload_n 0, 1) := dk_42 (dk_at dksX1_slipFor_0 19 rfl rfl)
theorem dX1_slipFor_20 : decode cX1_slipFor 20 = .ok (.iload_n 3, 1) := dk_29 (dk_at dksX1_slipFor_0 20 rfl rfl)
theorem dX1_slipFor_21 : decode cX1_slipFor 21 = .ok (.invokevirtual 87, 3) := dk_182 0 87 (dk_at dksX1_slipFor_0 21 rfl rfl)
theorem dX1_slipFor_24 : decode cX1_slipFor 24 = .ok (.ireturn, 1) := dk_172 (dk_at dksX1_slipFor_1 0 rfl rfl)
theorem dX1_slipFor_25 : decode cX1_slipFor 25 = .ok (.iconst 0, 1) := dk_3 (dk_at dksX1_slipFor_1 1 rfl rfl)
theorem dX1_slipFor_26 : decode cX1_slipFor 26 = .ok (.istore 4, 2) := dk_54 4 (dk_at dksX1_slipFor_1 2 rfl rfl)
theorem dX1_slipFor_28 : decode cX1_slipFor 28 = .ok (.iload 4, 2) := dk_21 4 (dk_at dksX1_slipFor_1 4 rfl rfl)
theorem dX1_slipFor_30 : decode cX1_slipFor 30 = .ok (.bipush 39, 2) := dk_16 39 (dk_at dksX1_slipFor_1 6 rfl rfl)
theorem dX1_slipFor_32 : decode cX1_slipFor 32 = .ok (.if_icmp .gt 43, 3) := dk_163 0 43 (dk_at dksX1_slipFor_1 8 rfl rfl)
theorem dX1_slipFor_35 : decode cX1_slipFor 35 = .ok (.aload_n 0, 1) := dk_42 (dk_at dksX1_slipFor_1 11 rfl rfl)
theorem dX1_slipFor_36 : decode cX1_slipFor 36 = .ok (.getfield 40, 3) := dk_180 0 40 (dk_at dksX1_slipFor_1 12 rfl rfl)
theorem dX1_slipFor_39 : decode cX1_slipFor 39 = .ok (.aload_n 0, 1) := dk_42 (dk_at dksX1_slipFor_1 15 rfl rfl)
theorem dX1_slipFor_40 : decode cX1_slipFor 40 = .ok (.getfield 33, 3) := dk_180 0 33 (dk_at dksX1_slipFor_1 16 rfl rfl)
theorem dX1_slipFor_43 : decode cX1_slipFor 43 = .ok (.invokevirtual 215, 3) := dk_182 0 215 (dk_at dksX1_slipFor_1 19 rfl rfl)
theorem dX1_slipFor_46 : decode cX1_slipFor 46 = .ok (.getfield 163, 3) := dk_180 0 163 (dk_at dksX1_slipFor_2 0 rfl rfl)
theorem dX1_slipFor_49 : decode cX1_slipFor 49 = .ok (.iload_n 1, 1) := dk_27 (dk_at dksX1_slipFor_2 3 rfl rfl)
theorem dX1_slipFor_50 : decode cX1_slipFor 50 = .ok (.iload 4, 2) := dk_21 4 (dk_at dksX1_slipFor_2 4 rfl rfl)
theorem dX1_slipFor_52 : decode cX1_slipFor 52 = .ok (.iastore, 1) := dk_79 (dk_at dksX1_slipFor_2 6 rfl rfl)
theorem dX1_slipFor_53 : decode cX1_slipFor 53 = .ok (.aload_n 0, 1) := dk_42 (dk_at dksX1_slipFor_2 7 rfl rfl)
theorem dX1_slipFor_54 : decode cX1_slipFor 54 = .ok (.getfield 40, 3) := dk_180 0 40 (dk_at dksX1_slipFor_2 8 rfl rfl)
theorem dX1_slipFor_57 : decode cX1_slipFor 57 = .ok (.iload_n 1, 1) := dk_27 (dk_at dksX1_slipFor_2 11 rfl rfl)
theorem dX1_slipFor_58 : decode cX1_slipFor 58 = .ok (.iload_n 2, 1) := dk_28 (dk_at dksX1_slipFor_2 12 rfl rfl)
theorem dX1_slipFor_59 : decode cX1_slipFor 59 = .ok (.iconst 0, 1) := dk_3 (dk_at dksX1_slipFor_2 13 rfl rfl)
theorem dX1_slipFor_60 : decode cX1_slipFor 60 = .ok (.invokevirtual 202, 3) := dk_182 0 202 (dk_at dksX1_slipFor_2 14 rfl rfl)
theorem dX1_slipFor_63 : decode cX1_slipFor 63 = .ok (.ifCond .eq 6, 3) := dk_153 0 6 (dk_at dksX1_slipFor_2 17 rfl rfl)
theorem dX1_slipFor_66 : decode cX1_slipFor 66 = .ok (.iload 4, 2) := dk_21 4 (dk_at dksX1_slipFor_2 20 rfl rfl)
theorem dX1_slipFor_68 : decode cX1_slipFor 68 = .ok (.ireturn, 1) := dk_172 (dk_at dksX1_slipFor_2 22 rfl rfl)
theorem dX1_slipFor_69 : decode cX1_slipFor 69 = .ok (.iinc 4 1, 3) := dk_132 4 1 (dk_at dksX1_slipFor_3 0 rfl rfl)
theorem dX1_slipFor_72 : decode cX1_slipFor 72 = .ok (.goto (-44), 3) := dk_167 255 212 (dk_at dksX1_slipFor_3 3 rfl rfl)
theorem dX1_slipFor_75 : decode cX1_slipFor 75 = .ok (.bipush (-2), 2) := dk_16 254 (dk_at dksX1_slipFor_3 6 rfl rfl)
theorem dX1_slipFor_77 : decode cX1_slipFor 77 = .ok (.ireturn, 1) := dk_172 (dk_at dksX1_slipFor_3 8 rfl rfl)
abbrev cX1_seat : ByteArray := prog_1_method_46_code
def yX1_seat : MethodName := ⟨RX1, "seat", "(I)I"⟩
def dkwX1_seat_1 : List UInt8 := [153, 0, 9, 42, 28, 182, 0, 87, 172, 42, 27, 182, 0, 240, 42, 180, 0, 223, 172]
abbrev dktX1_seat_1 : List UInt8 := dkwX1_seat_1 ++ []
def dkwX1_seat_0 : List UInt8 := [42, 182, 0, 73, 42, 42, 180, 0, 98, 198, 0, 7, 4, 167, 0, 4, 3, 27, 182, 0, 178, 61, 28]
abbrev dktX1_seat_0 : List UInt8 := dkwX1_seat_0 ++ dktX1_seat_1
theorem dksX1_seat_0 : cX1_seat.data.toList.drop 0 = dktX1_seat_0 := by decide +kernel
theorem dksX1_seat_1 : cX1_seat.data.toList.drop 23 = dktX1_seat_1 := dk_seg dksX1_seat_0 23 rfl rfl
theorem dX1_seat_0 : decode cX1_seat 0 = .ok (.aload_n 0, 1) := dk_42 (dk_at dksX1_seat_0 0 rfl rfl)
theorem dX1_seat_1 : decode cX1_seat 1 = .ok (.invokevirtual 73, 3) := dk_182 0 73 (dk_at dksX1_seat_0 1 rfl rfl)
theorem dX1_seat_4 : decode cX1_seat 4 = .ok (.aload_n 0, 1) := dk_42 (dk_at dksX1_seat_0 4 rfl rfl)
theorem dX1_seat_5 : decode cX1_seat 5 = .ok (.aload_n 0, 1) := dk_42 (dk_at dksX1_seat_0 5 rfl rfl)
theorem dX1_seat_6 : decode cX1_seat 6 = .ok (.getfield 98, 3) := dk_180 0 98 (dk_at dksX1_seat_0 6 rfl rfl)
theorem dX1_seat_9 : decode cX1_seat 9 = .ok (.ifnull 7, 3) := dk_198 0 7 (dk_at dksX1_seat_0 9 rfl rfl)
theorem dX1_seat_12 : decode cX1_seat 12 = .ok (.iconst 1, 1) := dk_4 (dk_at dksX1_seat_0 12 rfl rfl)
theorem dX1_seat_13 : decode cX1_seat 13 = .ok (.goto 4, 3) := dk_167 0 4 (dk_at dksX1_seat_0 13 rfl rfl)
theorem dX1_seat_16 : decode cX1_seat 16 = .ok (.iconst 0, 1) := dk_3 (dk_at dksX1_seat_0 16 rfl rfl)
theorem dX1_seat_17 : decode cX1_seat 17 = .ok (.iload_n 1, 1) := dk_27 (dk_at dksX1_seat_0 17 rfl rfl)
theorem dX1_seat_18 : decode cX1_seat 18 = .ok (.invokevirtual 178, 3) := dk_182 0 178 (dk_at dksX1_seat_0 18 rfl rfl)
theorem dX1_seat_21 : decode cX1_seat 21 = .ok (.istore_n 2, 1) := dk_61 (dk_at dksX1_seat_0 21 rfl rfl)
theorem dX1_seat_22 : decode cX1_seat 22 = .ok (.iload_n 2, 1) := dk_28 (dk_at dksX1_seat_0 22 rfl rfl)
theorem dX1_seat_23 : decode cX1_seat 23 = .ok (.ifCond .eq 9, 3) := dk_153 0 9 (dk_at dksX1_seat_1 0 rfl rfl)
theorem dX1_seat_26 : decode cX1_seat 26 = .ok (.aload_n 0, 1) := dk_42 (dk_at dksX1_seat_1 3 rfl rfl)
theorem dX1_seat_27 : decode cX1_seat 27 = .ok (.iload_n 2, 1) := dk_28 (dk_at dksX1_seat_1 4 rfl rfl)
theorem dX1_seat_28 : decode cX1_seat 28 = .ok (.invokevirtual 87, 3) := dk_182 0 87 (dk_at dksX1_seat_1 5 rfl rfl)
theorem dX1_seat_31 : decode cX1_seat 31 = .ok (.ireturn, 1) := dk_172 (dk_at dksX1_seat_1 8 rfl rfl)
theorem dX1_seat_32 : decode cX1_seat 32 = .ok (.aload_n 0, 1) := dk_42 (dk_at dksX1_seat_1 9 rfl rfl)
theorem dX1_seat_33 : decode cX1_seat 33 = .ok (.iload_n 1, 1) := dk_27 (dk_at dksX1_seat_1 10 rfl rfl)
theorem dX1_seat_34 : decode cX1_seat 34 = .ok (.invokevirtual 240, 3) := dk_182 0 240 (dk_at dksX1_seat_1 11 rfl rfl)
theorem dX1_seat_37 : decode cX1_seat 37 = .ok (.aload_n 0, 1) := dk_42 (dk_at dksX1_seat_1 14 rfl rfl)
theorem dX1_seat_38 : decode cX1_seat 38 = .ok (.getfield 223, 3) := dk_180 0 223 (dk_at dksX1_seat_1 15 rfl rfl)
theorem dX1_seat_41 : decode cX1_seat 41 = .ok (.ireturn, 1) := dk_172 (dk_at dksX1_seat_1 18 rfl rfl)
abbrev cX1_seek : ByteArray := prog_1_method_45_code
def yX1_seek : MethodName := ⟨RX1, "seek", "(I)V"⟩
def dkwX1_seek_4 : List UInt8 := [28, 46, 79, 132, 2, 1, 167, 255, 174, 42, 3, 3, 27, 182, 0, 236, 177]
abbrev dktX1_seek_4 : List UInt8 := dkwX1_seek_4 ++ []
def dkwX1_seek_3 : List UInt8 := [167, 0, 4, 3, 96, 62, 132, 4, 1, 167, 255, 211, 42, 180, 0, 57, 29, 42, 180, 0, 33, 180, 0, 137]
abbrev dktX1_seek_3 : List UInt8 := dkwX1_seek_3 ++ dktX1_seek_4
def dkwX1_seek_2 : List UInt8 := [42, 180, 0, 33, 180, 0, 137, 21, 4, 46, 42, 180, 0, 33, 180, 0, 137, 28, 46, 162, 0, 7, 4]
abbrev dktX1_seek_2 : List UInt8 := dkwX1_seek_2 ++ dktX1_seek_3
def dkwX1_seek_1 : List UInt8 := [180, 0, 118, 162, 0, 77, 3, 62, 3, 54, 4, 21, 4, 42, 180, 0, 98, 180, 0, 118, 162, 0, 39, 29]
abbrev dktX1_seek_1 : List UInt8 := dkwX1_seek_1 ++ dktX1_seek_2
def dkwX1_seek_0 : List UInt8 := [42, 180, 0, 40, 42, 180, 0, 33, 182, 0, 215, 87, 42, 2, 181, 0, 223, 3, 61, 28, 42, 180, 0, 98]
abbrev dktX1_seek_0 : List UInt8 := dkwX1_seek_0 ++ dktX1_seek_1
theorem dksX1_seek_0 : cX1_seek.data.toList.drop 0 = dktX1_seek_0 := by decide +kernel
theorem dksX1_seek_1 : cX1_seek.data.toList.drop 24 = dktX1_seek_1 := dk_seg dksX1_seek_0 24 rfl rfl
theorem dksX1_seek_2 : cX1_seek.data.toList.drop 48 = dktX1_seek_2 := dk_seg dksX1_seek_1 24 rfl rfl
theorem dksX1_seek_3 : cX1_seek.data.toList.drop 71 = dktX1_seek_3 := dk_seg dksX1_seek_2 23 rfl rfl
theorem dksX1_seek_4 : cX1_seek.data.toList.drop 95 = dktX1_seek_4 := dk_seg dksX1_seek_3 24 rfl rfl
theorem dX1_seek_0 : decode cX1_seek 0 = .ok (.aload_n 0, 1) := dk_42 (dk_at dksX1_seek_0 0 rfl rfl)
theorem dX1_seek_1 : decode cX1_seek 1 = .ok (.getfield 40, 3) := dk_180 0 40 (dk_at dksX1_seek_0 1 rfl rfl)
theorem dX1_seek_4 : decode cX1_seek 4 = .ok (.aload_n 0, 1) := dk_42 (dk_at dksX1_seek_0 4 rfl rfl)
theorem dX1_seek_5 : decode cX1_seek 5 = .ok (.getfield 33, 3) := dk_180 0 33 (dk_at dksX1_seek_0 5 rfl rfl)
theorem dX1_seek_8 : decode cX1_seek 8 = .ok (.invokevirtual 215, 3) := dk_182 0 215 (dk_at dksX1_seek_0 8 rfl rfl)
theorem dX1_seek_11 : decode cX1_seek 11 = .ok (.pop, 1) := dk_87 (dk_at dksX1_seek_0 11 rfl rfl)
theorem dX1_seek_12 : decode cX1_seek 12 = .ok (.aload_n 0, 1) := dk_42 (dk_at dksX1_seek_0 12 rfl rfl)
theorem dX1_seek_13 : decode cX1_seek 13 = .ok (.iconst (-1), 1) := dk_2 (dk_at dksX1_seek_0 13 rfl rfl)
theorem dX1_seek_14 : decode cX1_seek 14 = .ok (.putfield 223, 3) := dk_181 0 223 (dk_at dksX1_seek_0 14 rfl rfl)
theorem dX1_seek_17 : decode cX1_seek 17 = .ok (.iconst 0, 1) := dk_3 (dk_at dksX1_seek_0 17 rfl rfl)
theorem dX1_seek_18 : decode cX1_seek 18 = .ok (.istore_n 2, 1) := dk_61 (dk_at dksX1_seek_0 18 rfl rfl)
theorem dX1_seek_19 : decode cX1_seek 19 = .ok (.iload_n 2, 1) := dk_28 (dk_at dksX1_seek_0 19 rfl rfl)
theorem dX1_seek_20 : decode cX1_seek 20 = .ok (.aload_n 0, 1) := dk_42 (dk_at dksX1_seek_0 20 rfl rfl)
theorem dX1_seek_21 : decode cX1_seek 21 = .ok (.getfield 98, 3) := dk_180 0 98 (dk_at dksX1_seek_0 21 rfl rfl)
theorem dX1_seek_24 : decode cX1_seek 24 = .ok (.getfield 118, 3) := dk_180 0 118 (dk_at dksX1_seek_1 0 rfl rfl)
theorem dX1_seek_27 : decode cX1_seek 27 = .ok (.if_icmp .ge 77, 3) := dk_162 0 77 (dk_at dksX1_seek_1 3 rfl rfl)
theorem dX1_seek_30 : decode cX1_seek 30 = .ok (.iconst 0, 1) := dk_3 (dk_at dksX1_seek_1 6 rfl rfl)
theorem dX1_seek_31 : decode cX1_seek 31 = .ok (.istore_n 3, 1) := dk_62 (dk_at dksX1_seek_1 7 rfl rfl)
theorem dX1_seek_32 : decode cX1_seek 32 = .ok (.iconst 0, 1) := dk_3 (dk_at dksX1_seek_1 8 rfl rfl)
theorem dX1_seek_33 : decode cX1_seek 33 = .ok (.istore 4, 2) := dk_54 4 (dk_at dksX1_seek_1 9 rfl rfl)
theorem dX1_seek_35 : decode cX1_seek 35 = .ok (.iload 4, 2) := dk_21 4 (dk_at dksX1_seek_1 11 rfl rfl)
theorem dX1_seek_37 : decode cX1_seek 37 = .ok (.aload_n 0, 1) := dk_42 (dk_at dksX1_seek_1 13 rfl rfl)
theorem dX1_seek_38 : decode cX1_seek 38 = .ok (.getfield 98, 3) := dk_180 0 98 (dk_at dksX1_seek_1 14 rfl rfl)
theorem dX1_seek_41 : decode cX1_seek 41 = .ok (.getfield 118, 3) := dk_180 0 118 (dk_at dksX1_seek_1 17 rfl rfl)
theorem dX1_seek_44 : decode cX1_seek 44 = .ok (.if_icmp .ge 39, 3) := dk_162 0 39 (dk_at dksX1_seek_1 20 rfl rfl)
theorem dX1_seek_47 : decode cX1_seek 47 = .ok (.iload_n 3, 1) := dk_29 (dk_at dksX1_seek_1 23 rfl rfl)
theorem dX1_seek_48 : decode cX1_seek 48 = .ok (.aload_n 0, 1) := dk_42 (dk_at dksX1_seek_2 0 rfl rfl)
theorem dX1_seek_49 : decode cX1_seek 49 = .ok (.getfield 33, 3) := dk_180 0 33 (dk_at dksX1_seek_2 1 rfl rfl)
theorem dX1_seek_52 : decode cX1_seek 52 = .ok (.getfield 137, 3) := dk_180 0 137 (dk_at dksX1_seek_2 4 rfl rfl)
theorem dX1_seek_55 : decode cX1_seek 55 = .ok (.iload 4, 2) := dk_21 4 (dk_at dksX1_seek_2 7 rfl rfl)
theorem dX1_seek_57 : decode cX1_seek 57 = .ok (.iaload, 1) := dk_46 (dk_at dksX1_seek_2 9 rfl rfl)
theorem dX1_seek_58 : decode cX1_seek 58 = .ok (.aload_n 0, 1) := dk_42 (dk_at dksX1_seek_2 10 rfl rfl)
theorem dX1_seek_59 : decode cX1_seek 59 = .ok (.getfield 33, 3) := dk_180 0 33 (dk_at dksX1_seek_2 11 rfl rfl)
theorem dX1_seek_62 : decode cX1_seek 62 = .ok (.getfield 137, 3) := dk_180 0 137 (dk_at dksX1_seek_2 14 rfl rfl)
theorem dX1_seek_65 : decode cX1_seek 65 = .ok (.iload_n 2, 1) := dk_28 (dk_at dksX1_seek_2 17 rfl rfl)
theorem dX1_seek_66 : decode cX1_seek 66 = .ok (.iaload, 1) := dk_46 (dk_at dksX1_seek_2 18 rfl rfl)
theorem dX1_seek_67 : decode cX1_seek 67 = .ok (.if_icmp .ge 7, 3) := dk_162 0 7 (dk_at dksX1_seek_2 19 rfl rfl)
theorem dX1_seek_70 : decode cX1_seek 70 = .ok (.iconst 1, 1) := dk_4 (dk_at dksX1_seek_2 22 rfl rfl)
theorem dX1_seek_71 : decode cX1_seek 71 = .ok (.goto 4, 3) := dk_167 0 4 (dk_at dksX1_seek_3 0 rfl rfl)
theorem dX1_seek_74 : decode cX1_seek 74 = .ok (.iconst 0, 1) := dk_3 (dk_at dksX1_seek_3 3 rfl rfl)
theorem dX1_seek_75 : decode cX1_seek 75 = .ok (.iadd, 1) := dk_96 (dk_at dksX1_seek_3 4 rfl rfl)
theorem dX1_seek_76 : decode cX1_seek 76 = .ok (.istore_n 3, 1) := dk_62 (dk_at dksX1_seek_3 5 rfl rfl)
theorem dX1_seek_77 : decode cX1_seek 77 = .ok (.iinc 4 1, 3) := dk_132 4 1 (dk_at dksX1_seek_3 6 rfl rfl)
theorem dX1_seek_80 : decode cX1_seek 80 = .ok (.goto (-45), 3) := dk_167 255 211 (dk_at dksX1_seek_3 9 rfl rfl)
theorem dX1_seek_83 : decode cX1_seek 83 = .ok (.aload_n 0, 1) := dk_42 (dk_at dksX1_seek_3 12 rfl rfl)
theorem dX1_seek_84 : decode cX1_seek 84 = .ok (.getfield 57, 3) := dk_180 0 57 (dk_at dksX1_seek_3 13 rfl rfl)
theorem dX1_seek_87 : decode cX1_seek 87 = .ok (.iload_n 3, 1) := dk_29 (dk_at dksX1_seek_3 16 rfl rfl)
theorem dX1_seek_88 : decode cX1_seek 88 = .ok (.aload_n 0, 1) := dk_42 (dk_at dksX1_seek_3 17 rfl rfl)
theorem dX1_seek_89 : decode cX1_seek 89 = .ok (.getfield 33, 3) := dk_180 0 33 (dk_at dksX1_seek_3 18 rfl rfl)
theorem dX1_seek_92 : decode cX1_seek 92 = .ok (.getfield 137, 3) := dk_180 0 137 (dk_at dksX1_seek_3 21 rfl rfl)
theorem dX1_seek_95 : decode cX1_seek 95 = .ok (.iload_n 2, 1) := dk_28 (dk_at dksX1_seek_4 0 rfl rfl)
theorem dX1_seek_96 : decode cX1_seek 96 = .ok (.iaload, 1) := dk_46 (dk_at dksX1_seek_4 1 rfl rfl)
theorem dX1_seek_97 : decode cX1_seek 97 = .ok (.iastore, 1) := dk_79 (dk_at dksX1_seek_4 2 rfl rfl)
theorem dX1_seek_98 : decode cX1_seek 98 = .ok (.iinc 2 1, 3) := dk_132 2 1 (dk_at dksX1_seek_4 3 rfl rfl)
theorem dX1_seek_101 : decode cX1_seek 101 = .ok (.goto (-82), 3) := dk_167 255 174 (dk_at dksX1_seek_4 6 rfl rfl)
theorem dX1_seek_104 : decode cX1_seek 104 = .ok (.aload_n 0, 1) := dk_42 (dk_at dksX1_seek_4 9 rfl rfl)
theorem dX1_seek_105 : decode cX1_seek 105 = .ok (.iconst 0, 1) := dk_3 (dk_at dksX1_seek_4 10 rfl rfl)
theorem dX1_seek_106 : decode cX1_seek 106 = .ok (.iconst 0, 1) := dk_3 (dk_at dksX1_seek_4 11 rfl rfl)
theorem dX1_seek_107 : decode cX1_seek 107 = .ok (.iload_n 1, 1) := dk_27 (dk_at dksX1_seek_4 12 rfl rfl)
theorem dX1_seek_108 : decode cX1_seek 108 = .ok (.invokevirtual 236, 3) := dk_182 0 236 (dk_at dksX1_seek_4 13 rfl rfl)
theorem dX1_seek_111 : decode cX1_seek 111 = .ok (.return_, 1) := dk_177 (dk_at dksX1_seek_4 16 rfl rfl)
abbrev cX1_trySeats : ByteArray := prog_1_method_44_code
def yX1_trySeats : MethodName := ⟨RX1, "trySeats", "(III)V"⟩
def dkwX1_trySeats_5 : List UInt8 := [167, 255, 199, 177]
abbrev dktX1_trySeats_5 : List UInt8 := dkwX1_trySeats_5 ++ []
def dkwX1_trySeats_4 : List UInt8 := [180, 0, 57, 21, 4, 46, 79, 42, 27, 4, 96, 28, 4, 21, 4, 120, 128, 29, 182, 0, 236, 132, 4, 1]
abbrev dktX1_trySeats_4 : List UInt8 := dkwX1_trySeats_4 ++ dktX1_trySeats_5
def dkwX1_trySeats_3 : List UInt8 := [162, 0, 51, 28, 21, 4, 184, 0, 232, 153, 0, 6, 167, 0, 33, 42, 180, 0, 40, 180, 0, 137, 27, 42]
abbrev dktX1_trySeats_3 : List UInt8 := dkwX1_trySeats_3 ++ dktX1_trySeats_4
def dkwX1_trySeats_2 : List UInt8 := [42, 180, 0, 61, 3, 16, 6, 184, 0, 226, 177, 3, 54, 4, 21, 4, 42, 180, 0, 98, 180, 0, 118]
abbrev dktX1_trySeats_2 : List UInt8 := dkwX1_trySeats_2 ++ dktX1_trySeats_3
def dkwX1_trySeats_1 : List UInt8 := [21, 4, 42, 180, 0, 223, 163, 0, 4, 177, 42, 21, 4, 181, 0, 223, 42, 180, 0, 40, 180, 0, 137, 3]
abbrev dktX1_trySeats_1 : List UInt8 := dkwX1_trySeats_1 ++ dktX1_trySeats_2
def dkwX1_trySeats_0 : List UInt8 := [27, 42, 180, 0, 98, 180, 0, 118, 160, 0, 51, 42, 180, 0, 40, 29, 182, 0, 196, 184, 0, 199, 54, 4]
abbrev dktX1_trySeats_0 : List UInt8 := dkwX1_trySeats_0 ++ dktX1_trySeats_1
theorem dksX1_trySeats_0 : cX1_trySeats.data.toList.drop 0 = dktX1_trySeats_0 := by decide +kernel
theorem dksX1_trySeats_1 : cX1_trySeats.data.toList.drop 24 = dktX1_trySeats_1 := dk_seg dksX1_trySeats_0 24 rfl rfl
theorem dksX1_trySeats_2 : cX1_trySeats.data.toList.drop 48 = dktX1_trySeats_2 := dk_seg dksX1_trySeats_1 24 rfl rfl
theorem dksX1_trySeats_3 : cX1_trySeats.data.toList.drop 71 = dktX1_trySeats_3 := dk_seg dksX1_trySeats_2 23 rfl rfl
theorem dksX1_trySeats_4 : cX1_trySeats.data.toList.drop 95 = dktX1_trySeats_4 := dk_seg dksX1_trySeats_3 24 rfl rfl
theorem dksX1_trySeats_5 : cX1_trySeats.data.toList.drop 119 = dktX1_trySeats_5 := dk_seg dksX1_trySeats_4 24 rfl rfl
theorem dX1_trySeats_0 : decode cX1_trySeats 0 = .ok (.iload_n 1, 1) := dk_27 (dk_at dksX1_trySeats_0 0 rfl rfl)
theorem dX1_trySeats_1 : decode cX1_trySeats 1 = .ok (.aload_n 0, 1) := dk_42 (dk_at dksX1_trySeats_0 1 rfl rfl)
theorem dX1_trySeats_2 : decode cX1_trySeats 2 = .ok (.getfield 98, 3) := dk_180 0 98 (dk_at dksX1_trySeats_0 2 rfl rfl)
theorem dX1_trySeats_5 : decode cX1_trySeats 5 = .ok (.getfield 118, 3) := dk_180 0 118 (dk_at dksX1_trySeats_0 5 rfl rfl)
theorem dX1_trySeats_8 : decode cX1_trySeats 8 = .ok (.if_icmp .ne 51, 3) := dk_160 0 51 (dk_at dksX1_trySeats_0 8 rfl rfl)
theorem dX1_trySeats_11 : decode cX1_trySeats 11 = .ok (.aload_n 0, 1) := dk_42 (dk_at dksX1_trySeats_0 11 rfl rfl)
theorem dX1_trySeats_12 : decode cX1_trySeats 12 = .ok (.getfield 40, 3) := dk_180 0 40 (dk_at dksX1_trySeats_0 12 rfl rfl)
theorem dX1_trySeats_15 : decode cX1_trySeats 15 = .ok (.iload_n 3, 1) := dk_29 (dk_at dksX1_trySeats_0 15 rfl rfl)
theorem dX1_trySeats_16 : decode cX1_trySeats 16 = .ok (.invokevirtual 196, 3) := dk_182 0 196 (dk_at dksX1_trySeats_0 16 rfl rfl)
theorem dX1_trySeats_19 : decode cX1_trySeats 19 = .ok (.invokestatic 199, 3) := dk_184 0 199 (dk_at dksX1_trySeats_0 19 rfl rfl)
theorem dX1_trySeats_22 : decode cX1_trySeats 22 = .ok (.istore 4, 2) := dk_54 4 (dk_at dksX1_trySeats_0 22 rfl rfl)
theorem dX1_trySeats_24 : decode cX1_trySeats 24 = .ok (.iload 4, 2) := dk_21 4 (dk_at dksX1_trySeats_1 0 rfl rfl)
theorem dX1_trySeats_26 : decode cX1_trySeats 26 = .ok (.aload_n 0, 1) := dk_42 (dk_at dksX1_trySeats_1 2 rfl rfl)
theorem dX1_trySeats_27 : decode cX1_trySeats 27 = .ok (.getfield 223, 3) := dk_180 0 223 (dk_at dksX1_trySeats_1 3 rfl rfl)
theorem dX1_trySeats_30 : decode cX1_trySeats 30 = .ok (.if_icmp .gt 4, 3) := dk_163 0 4 (dk_at dksX1_trySeats_1 6 rfl rfl)
theorem dX1_trySeats_33 : decode cX1_trySeats 33 = .ok (.return_, 1) := dk_177 (dk_at dksX1_trySeats_1 9 rfl rfl)
theorem dX1_trySeats_34 : decode cX1_trySeats 34 = .ok (.aload_n 0, 1) := dk_42 (dk_at dksX1_trySeats_1 10 rfl rfl)
theorem dX1_trySeats_35 : decode cX1_trySeats 35 = .ok (.iload 4, 2) := dk_21 4 (dk_at dksX1_trySeats_1 11 rfl rfl)
theorem dX1_trySeats_37 : decode cX1_trySeats 37 = .ok (.putfield 223, 3) := dk_181 0 223 (dk_at dksX1_trySeats_1 13 rfl rfl)
theorem dX1_trySeats_40 : decode cX1_trySeats 40 = .ok (.aload_n 0, 1) := dk_42 (dk_at dksX1_trySeats_1 16 rfl rfl)
theorem dX1_trySeats_41 : decode cX1_trySeats 41 = .ok (.getfield 40, 3) := dk_180 0 40 (dk_at dksX1_trySeats_1 17 rfl rfl)
theorem dX1_trySeats_44 : decode cX1_trySeats 44 = .ok (.getfield 137, 3) := dk_180 0 137 (dk_at dksX1_trySeats_1 20 rfl rfl)
theorem dX1_trySeats_47 : decode cX1_trySeats 47 = .ok (.iconst 0, 1) := dk_3 (dk_at dksX1_trySeats_1 23 rfl rfl)
theorem dX1_trySeats_48 : decode cX1_trySeats 48 = .ok (.aload_n 0, 1) := dk_42 (dk_at dksX1_trySeats_2 0 rfl rfl)
theorem dX1_trySeats_49 : decode cX1_trySeats 49 = .ok (.getfield 61, 3) := dk_180 0 61 (dk_at dksX1_trySeats_2 1 rfl rfl)
theorem dX1_trySeats_52 : decode cX1_trySeats 52 = .ok (.iconst 0, 1) := dk_3 (dk_at dksX1_trySeats_2 4 rfl rfl)
theorem dX1_trySeats_53 : decode cX1_trySeats 53 = .ok (.bipush 6, 2) := dk_16 6 (dk_at dksX1_trySeats_2 5 rfl rfl)
theorem dX1_trySeats_55 : decode cX1_trySeats 55 = .ok (.invokestatic 226, 3) := dk_184 0 226 (dk_at dksX1_trySeats_2 7 rfl rfl)
theorem dX1_trySeats_58 : decode cX1_trySeats 58 = .ok (.return_, 1) := dk_177 (dk_at dksX1_trySeats_2 10 rfl rfl)
theorem dX1_trySeats_59 : decode cX1_trySeats 59 = .ok (.iconst 0, 1) := dk_3 (dk_at dksX1_trySeats_2 11 rfl rfl)
theorem dX1_trySeats_60 : decode cX1_trySeats 60 = .ok (.istore 4, 2) := dk_54 4 (dk_at dksX1_trySeats_2 12 rfl rfl)
theorem dX1_trySeats_62 : decode cX1_trySeats 62 = .ok (.iload 4, 2) := dk_21 4 (dk_at dksX1_trySeats_2 14 rfl rfl)
theorem dX1_trySeats_64 : decode cX1_trySeats 64 = .ok (.aload_n 0, 1) := dk_42 (dk_at dksX1_trySeats_2 16 rfl rfl)
theorem dX1_trySeats_65 : decode cX1_trySeats 65 = .ok (.getfield 98, 3) := dk_180 0 98 (dk_at dksX1_trySeats_2 17 rfl rfl)
theorem dX1_trySeats_68 : decode cX1_trySeats 68 = .ok (.getfield 118, 3) := dk_180 0 118 (dk_at dksX1_trySeats_2 20 rfl rfl)
theorem dX1_trySeats_71 : decode cX1_trySeats 71 = .ok (.if_icmp .ge 51, 3) := dk_162 0 51 (dk_at dksX1_trySeats_3 0 rfl rfl)
theorem dX1_trySeats_74 : decode cX1_trySeats 74 = .ok (.iload_n 2, 1) := dk_28 (dk_at dksX1_trySeats_3 3 rfl rfl)
theorem dX1_trySeats_75 : decode cX1_trySeats 75 = .ok (.iload 4, 2) := dk_21 4 (dk_at dksX1_trySeats_3 4 rfl rfl)
theorem dX1_trySeats_77 : decode cX1_trySeats 77 = .ok (.invokestatic 232, 3) := dk_184 0 232 (dk_at dksX1_trySeats_3 6 rfl rfl)
theorem dX1_trySeats_80 : decode cX1_trySeats 80 = .ok (.ifCond .eq 6, 3) := dk_153 0 6 (dk_at dksX1_trySeats_3 9 rfl rfl)
theorem dX1_trySeats_83 : decode cX1_trySeats 83 = .ok (.goto 33, 3) := dk_167 0 33 (dk_at dksX1_trySeats_3 12 rfl rfl)
theorem dX1_trySeats_86 : decode cX1_trySeats 86 = .ok (.aload_n 0, 1) := dk_42 (dk_at dksX1_trySeats_3 15 rfl rfl)
theorem dX1_trySeats_87 : decode cX1_trySeats 87 = .ok (.getfield 40, 3) := dk_180 0 40 (dk_at dksX1_trySeats_3 16 rfl rfl)
theorem dX1_trySeats_90 : decode cX1_trySeats 90 = .ok (.getfield 137, 3) := dk_180 0 137 (dk_at dksX1_trySeats_3 19 rfl rfl)
theorem dX1_trySeats_93 : decode cX1_trySeats 93 = .ok (.iload_n 1, 1) := dk_27 (dk_at dksX1_trySeats_3 22 rfl rfl)
theorem dX1_trySeats_94 : decode cX1_trySeats 94 = .ok (.aload_n 0, 1) := dk_42 (dk_at dksX1_trySeats_3 23 rfl rfl)
theorem dX1_trySeats_95 : decode cX1_trySeats 95 = .ok (.getfield 57, 3) := dk_180 0 57 (dk_at dksX1_trySeats_4 0 rfl rfl)
theorem dX1_trySeats_98 : decode cX1_trySeats 98 = .ok (.iload 4, 2) := dk_21 4 (dk_at dksX1_trySeats_4 3 rfl rfl)
theorem dX1_trySeats_100 : decode cX1_trySeats 100 = .ok (.iaload, 1) := dk_46 (dk_at dksX1_trySeats_4 5 rfl rfl)
theorem dX1_trySeats_101 : decode cX1_trySeats 101 = .ok (.iastore, 1) := dk_79 (dk_at dksX1_trySeats_4 6 rfl rfl)
theorem dX1_trySeats_102 : decode cX1_trySeats 102 = .ok (.aload_n 0, 1) := dk_42 (dk_at dksX1_trySeats_4 7 rfl rfl)
theorem dX1_trySeats_103 : decode cX1_trySeats 103 = .ok (.iload_n 1, 1) := dk_27 (dk_at dksX1_trySeats_4 8 rfl rfl)
theorem dX1_trySeats_104 : decode cX1_trySeats 104 = .ok (.iconst 1, 1) := dk_4 (dk_at dksX1_trySeats_4 9 rfl rfl)
theorem dX1_trySeats_105 : decode cX1_trySeats 105 = .ok (.iadd, 1) := dk_96 (dk_at dksX1_trySeats_4 10 rfl rfl)
theorem dX1_trySeats_106 : decode cX1_trySeats 106 = .ok (.iload_n 2, 1) := dk_28 (dk_at dksX1_trySeats_4 11 rfl rfl)
theorem dX1_trySeats_107 : decode cX1_trySeats 107 = .ok (.iconst 1, 1) := dk_4 (dk_at dksX1_trySeats_4 12 rfl rfl)
theorem dX1_trySeats_108 : decode cX1_trySeats 108 = .ok (.iload 4, 2) := dk_21 4 (dk_at dksX1_trySeats_4 13 rfl rfl)
theorem dX1_trySeats_110 : decode cX1_trySeats 110 = .ok (.ishl, 1) := dk_120 (dk_at dksX1_trySeats_4 15 rfl rfl)
theorem dX1_trySeats_111 : decode cX1_trySeats 111 = .ok (.ior, 1) := dk_128 (dk_at dksX1_trySeats_4 16 rfl rfl)
theorem dX1_trySeats_112 : decode cX1_trySeats 112 = .ok (.iload_n 3, 1) := dk_29 (dk_at dksX1_trySeats_4 17 rfl rfl)
theorem dX1_trySeats_113 : decode cX1_trySeats 113 = .ok (.invokevirtual 236, 3) := dk_182 0 236 (dk_at dksX1_trySeats_4 18 rfl rfl)
theorem dX1_trySeats_116 : decode cX1_trySeats 116 = .ok (.iinc 4 1, 3) := dk_132 4 1 (dk_at dksX1_trySeats_4 21 rfl rfl)
theorem dX1_trySeats_119 : decode cX1_trySeats 119 = .ok (.goto (-57), 3) := dk_167 255 199 (dk_at dksX1_trySeats_5 0 rfl rfl)
theorem dX1_trySeats_122 : decode cX1_trySeats 122 = .ok (.return_, 1) := dk_177 (dk_at dksX1_trySeats_5 3 rfl rfl)
abbrev cX1_has : ByteArray := prog_1_method_2_code
def yX1_has : MethodName := ⟨RX1, "has", "(II)Z"⟩
def dkwX1_has_0 : List UInt8 := [26, 27, 122, 4, 126, 4, 160, 0, 7, 4, 167, 0, 4, 3, 172]
abbrev dktX1_has_0 : List UInt8 := dkwX1_has_0 ++ []
theorem dksX1_has_0 : cX1_has.data.toList.drop 0 = dktX1_has_0 := by decide +kernel
theorem dX1_has_0 : decode cX1_has 0 = .ok (.iload_n 0, 1) := dk_26 (dk_at dksX1_has_0 0 rfl rfl)
theorem dX1_has_1 : decode cX1_has 1 = .ok (.iload_n 1, 1) := dk_27 (dk_at dksX1_has_0 1 rfl rfl)
theorem dX1_has_2 : decode cX1_has 2 = .ok (.ishr, 1) := dk_122 (dk_at dksX1_has_0 2 rfl rfl)
theorem dX1_has_3 : decode cX1_has 3 = .ok (.iconst 1, 1) := dk_4 (dk_at dksX1_has_0 3 rfl rfl)
theorem dX1_has_4 : decode cX1_has 4 = .ok (.iand, 1) := dk_126 (dk_at dksX1_has_0 4 rfl rfl)
theorem dX1_has_5 : decode cX1_has 5 = .ok (.iconst 1, 1) := dk_4 (dk_at dksX1_has_0 5 rfl rfl)
theorem dX1_has_6 : decode cX1_has 6 = .ok (.if_icmp .ne 7, 3) := dk_160 0 7 (dk_at dksX1_has_0 6 rfl rfl)
theorem dX1_has_9 : decode cX1_has 9 = .ok (.iconst 1, 1) := dk_4 (dk_at dksX1_has_0 9 rfl rfl)
theorem dX1_has_10 : decode cX1_has 10 = .ok (.goto 4, 3) := dk_167 0 4 (dk_at dksX1_has_0 10 rfl rfl)
theorem dX1_has_13 : decode cX1_has 13 = .ok (.iconst 0, 1) := dk_3 (dk_at dksX1_has_0 13 rfl rfl)
theorem dX1_has_14 : decode cX1_has 14 = .ok (.ireturn, 1) := dk_172 (dk_at dksX1_has_0 14 rfl rfl)
abbrev cX1_seatAt : ByteArray := prog_1_method_47_code
def yX1_seatAt : MethodName := ⟨RX1, "seatAt", "(II)I"⟩
def dkwX1_seatAt_1 : List UInt8 := [172, 42, 28, 182, 0, 240, 42, 180, 0, 61, 27, 46, 172]
abbrev dktX1_seatAt_1 : List UInt8 := dkwX1_seatAt_1 ++ []
def dkwX1_seatAt_0 : List UInt8 := [42, 182, 0, 73, 42, 42, 27, 182, 0, 133, 28, 182, 0, 178, 62, 29, 153, 0, 9, 42, 29, 182, 0, 87]
abbrev dktX1_seatAt_0 : List UInt8 := dkwX1_seatAt_0 ++ dktX1_seatAt_1
theorem dksX1_seatAt_0 : cX1_seatAt.data.toList.drop 0 = dktX1_seatAt_0 := by decide +kernel
theorem dksX1_seatAt_1 : cX1_seatAt.data.toList.drop 24 = dktX1_seatAt_1 := dk_seg dksX1_seatAt_0 24 rfl rfl
theorem dX1_seatAt_0 : decode cX1_seatAt 0 = .ok (.aload_n 0, 1) := dk_42 (dk_at dksX1_seatAt_0 0 rfl rfl)
theorem dX1_seatAt_1 : decode cX1_seatAt 1 = .ok (.invokevirtual 73, 3) := dk_182 0 73 (dk_at dksX1_seatAt_0 1 rfl rfl)
theorem dX1_seatAt_4 : decode cX1_seatAt 4 = .ok (.aload_n 0, 1) := dk_42 (dk_at dksX1_seatAt_0 4 rfl rfl)
theorem dX1_seatAt_5 : decode cX1_seatAt 5 = .ok (.aload_n 0, 1) := dk_42 (dk_at dksX1_seatAt_0 5 rfl rfl)
theorem dX1_seatAt_6 : decode cX1_seatAt 6 = .ok (.iload_n 1, 1) := dk_27 (dk_at dksX1_seatAt_0 6 rfl rfl)
theorem dX1_seatAt_7 : decode cX1_seatAt 7 = .ok (.invokevirtual 133, 3) := dk_182 0 133 (dk_at dksX1_seatAt_0 7 rfl rfl)
theorem dX1_seatAt_10 : decode cX1_seatAt 10 = .ok (.iload_n 2, 1) := dk_28 (dk_at dksX1_seatAt_0 10 rfl rfl)
theorem dX1_seatAt_11 : decode cX1_seatAt 11 = .ok (.invokevirtual 178, 3) := dk_182 0 178 (dk_at dksX1_seatAt_0 11 rfl rfl)
theorem dX1_seatAt_14 : decode cX1_seatAt 14 = .ok (.istore_n 3, 1) := dk_62 (dk_at dksX1_seatAt_0 14 rfl rfl)
theorem dX1_seatAt_15 : decode cX1_seatAt 15 = .ok (.iload_n 3, 1) := dk_29 (dk_at dksX1_seatAt_0 15 rfl rfl)
theorem dX1_seatAt_16 : decode cX1_seatAt 16 = .ok (.ifCond .eq 9, 3) := dk_153 0 9 (dk_at dksX1_seatAt_0 16 rfl rfl)
theorem dX1_seatAt_19 : decode cX1_seatAt 19 = .ok (.aload_n 0, 1) := dk_42 (dk_at dksX1_seatAt_0 19 rfl rfl)
theorem dX1_seatAt_20 : decode cX1_seatAt 20 = .ok (.iload_n 3, 1) := dk_29 (dk_at dksX1_seatAt_0 20 rfl rfl)
theorem dX1_seatAt_21 : decode cX1_seatAt 21 = .ok (.invokevirtual 87, 3) := dk_182 0 87 (dk_at dksX1_seatAt_0 21 rfl rfl)
theorem dX1_seatAt_24 : decode cX1_seatAt 24 = .ok (.ireturn, 1) := dk_172 (dk_at dksX1_seatAt_1 0 rfl rfl)
theorem dX1_seatAt_25 : decode cX1_seatAt 25 = .ok (.aload_n 0, 1) := dk_42 (dk_at dksX1_seatAt_1 1 rfl rfl)
theorem dX1_seatAt_26 : decode cX1_seatAt 26 = .ok (.iload_n 2, 1) := dk_28 (dk_at dksX1_seatAt_1 2 rfl rfl)
theorem dX1_seatAt_27 : decode cX1_seatAt 27 = .ok (.invokevirtual 240, 3) := dk_182 0 240 (dk_at dksX1_seatAt_1 3 rfl rfl)
theorem dX1_seatAt_30 : decode cX1_seatAt 30 = .ok (.aload_n 0, 1) := dk_42 (dk_at dksX1_seatAt_1 6 rfl rfl)
theorem dX1_seatAt_31 : decode cX1_seatAt 31 = .ok (.getfield 61, 3) := dk_180 0 61 (dk_at dksX1_seatAt_1 7 rfl rfl)
theorem dX1_seatAt_34 : decode cX1_seatAt 34 = .ok (.iload_n 1, 1) := dk_27 (dk_at dksX1_seatAt_1 10 rfl rfl)
theorem dX1_seatAt_35 : decode cX1_seatAt 35 = .ok (.iaload, 1) := dk_46 (dk_at dksX1_seatAt_1 11 rfl rfl)
theorem dX1_seatAt_36 : decode cX1_seatAt 36 = .ok (.ireturn, 1) := dk_172 (dk_at dksX1_seatAt_1 12 rfl rfl)
abbrev cX1_likes : ByteArray := prog_1_method_49_code
def yX1_likes : MethodName := ⟨RX1, "likes", "(III)I"⟩
def dkwX1_likes_2 : List UInt8 := [182, 0, 87, 167, 0, 18, 42, 27, 28, 29, 182, 0, 247, 153, 0, 7, 4, 167, 0, 4, 3, 172]
abbrev dktX1_likes_2 : List UInt8 := dkwX1_likes_2 ++ []
def dkwX1_likes_1 : List UInt8 := [159, 0, 7, 4, 167, 0, 4, 3, 29, 182, 0, 178, 54, 4, 21, 4, 153, 0, 12, 42, 21, 4]
abbrev dktX1_likes_1 : List UInt8 := dkwX1_likes_1 ++ dktX1_likes_2
def dkwX1_likes_0 : List UInt8 := [42, 182, 0, 73, 42, 42, 27, 182, 0, 133, 153, 0, 20, 42, 28, 182, 0, 133, 153, 0, 12, 27, 28]
abbrev dktX1_likes_0 : List UInt8 := dkwX1_likes_0 ++ dktX1_likes_1
theorem dksX1_likes_0 : cX1_likes.data.toList.drop 0 = dktX1_likes_0 := by decide +kernel
theorem dksX1_likes_1 : cX1_likes.data.toList.drop 23 = dktX1_likes_1 := dk_seg dksX1_likes_0 23 rfl rfl
theorem dksX1_likes_2 : cX1_likes.data.toList.drop 45 = dktX1_likes_2 := dk_seg dksX1_likes_1 22 rfl rfl
theorem dX1_likes_0 : decode cX1_likes 0 = .ok (.aload_n 0, 1) := dk_42 (dk_at dksX1_likes_0 0 rfl rfl)
theorem dX1_likes_1 : decode cX1_likes 1 = .ok (.invokevirtual 73, 3) := dk_182 0 73 (dk_at dksX1_likes_0 1 rfl rfl)
theorem dX1_likes_4 : decode cX1_likes 4 = .ok (.aload_n 0, 1) := dk_42 (dk_at dksX1_likes_0 4 rfl rfl)
theorem dX1_likes_5 : decode cX1_likes 5 = .ok (.aload_n 0, 1) := dk_42 (dk_at dksX1_likes_0 5 rfl rfl)
theorem dX1_likes_6 : decode cX1_likes 6 = .ok (.iload_n 1, 1) := dk_27 (dk_at dksX1_likes_0 6 rfl rfl)
theorem dX1_likes_7 : decode cX1_likes 7 = .ok (.invokevirtual 133, 3) := dk_182 0 133 (dk_at dksX1_likes_0 7 rfl rfl)
theorem dX1_likes_10 : decode cX1_likes 10 = .ok (.ifCond .eq 20, 3) := dk_153 0 20 (dk_at dksX1_likes_0 10 rfl rfl)
theorem dX1_likes_13 : decode cX1_likes 13 = .ok (.aload_n 0, 1) := dk_42 (dk_at dksX1_likes_0 13 rfl rfl)
theorem dX1_likes_14 : decode cX1_likes 14 = .ok (.iload_n 2, 1) := dk_28 (dk_at dksX1_likes_0 14 rfl rfl)
theorem dX1_likes_15 : decode cX1_likes 15 = .ok (.invokevirtual 133, 3) := dk_182 0 133 (dk_at dksX1_likes_0 15 rfl rfl)
theorem dX1_likes_18 : decode cX1_likes 18 = .ok (.ifCond .eq 12, 3) := dk_153 0 12 (dk_at dksX1_likes_0 18 rfl rfl)
theorem dX1_likes_21 : decode cX1_likes 21 = .ok (.iload_n 1, 1) := dk_27 (dk_at dksX1_likes_0 21 rfl rfl)
theorem dX1_likes_22 : decode cX1_likes 22 = .ok (.iload_n 2, 1) := dk_28 (dk_at dksX1_likes_0 22 rfl rfl)
theorem dX1_likes_23 : decode cX1_likes 23 = .ok (.if_icmp .eq 7, 3) := dk_159 0 7 (dk_at dksX1_likes_1 0 rfl rfl)
theorem dX1_likes_26 : decode cX1_likes 26 = .ok (.iconst 1, 1) := dk_4 (dk_at dksX1_likes_1 3 rfl rfl)
theorem dX1_likes_27 : decode cX1_likes 27 = .ok (.goto 4, 3) := dk_167 0 4 (dk_at dksX1_likes_1 4 rfl rfl)
theorem dX1_likes_30 : decode cX1_likes 30 = .ok (.iconst 0, 1) := dk_3 (dk_at dksX1_likes_1 7 rfl rfl)
theorem dX1_likes_31 : decode cX1_likes 31 = .ok (.iload_n 3, 1) := dk_29 (dk_at dksX1_likes_1 8 rfl rfl)
theorem dX1_likes_32 : decode cX1_likes 32 = .ok (.invokevirtual 178, 3) := dk_182 0 178 (dk_at dksX1_likes_1 9 rfl rfl)
theorem dX1_likes_35 : decode cX1_likes 35 = .ok (.istore 4, 2) := dk_54 4 (dk_at dksX1_likes_1 12 rfl rfl)
theorem dX1_likes_37 : decode cX1_likes 37 = .ok (.iload 4, 2) := dk_21 4 (dk_at dksX1_likes_1 14 rfl rfl)
theorem dX1_likes_39 : decode cX1_likes 39 = .ok (.ifCond .eq 12, 3) := dk_153 0 12 (dk_at dksX1_likes_1 16 rfl rfl)
theorem dX1_likes_42 : decode cX1_likes 42 = .ok (.aload_n 0, 1) := dk_42 (dk_at dksX1_likes_1 19 rfl rfl)
theorem dX1_likes_43 : decode cX1_likes 43 = .ok (.iload 4, 2) := dk_21 4 (dk_at dksX1_likes_1 20 rfl rfl)
theorem dX1_likes_45 : decode cX1_likes 45 = .ok (.invokevirtual 87, 3) := dk_182 0 87 (dk_at dksX1_likes_2 0 rfl rfl)
theorem dX1_likes_48 : decode cX1_likes 48 = .ok (.goto 18, 3) := dk_167 0 18 (dk_at dksX1_likes_2 3 rfl rfl)
theorem dX1_likes_51 : decode cX1_likes 51 = .ok (.aload_n 0, 1) := dk_42 (dk_at dksX1_likes_2 6 rfl rfl)
theorem dX1_likes_52 : decode cX1_likes 52 = .ok (.iload_n 1, 1) := dk_27 (dk_at dksX1_likes_2 7 rfl rfl)
theorem dX1_likes_53 : decode cX1_likes 53 = .ok (.iload_n 2, 1) := dk_28 (dk_at dksX1_likes_2 8 rfl rfl)
theorem dX1_likes_54 : decode cX1_likes 54 = .ok (.iload_n 3, 1) := dk_29 (dk_at dksX1_likes_2 9 rfl rfl)
theorem dX1_likes_55 : decode cX1_likes 55 = .ok (.invokevirtual 247, 3) := dk_182 0 247 (dk_at dksX1_likes_2 10 rfl rfl)
theorem dX1_likes_58 : decode cX1_likes 58 = .ok (.ifCond .eq 7, 3) := dk_153 0 7 (dk_at dksX1_likes_2 13 rfl rfl)
theorem dX1_likes_61 : decode cX1_likes 61 = .ok (.iconst 1, 1) := dk_4 (dk_at dksX1_likes_2 16 rfl rfl)
theorem dX1_likes_62 : decode cX1_likes 62 = .ok (.goto 4, 3) := dk_167 0 4 (dk_at dksX1_likes_2 17 rfl rfl)
theorem dX1_likes_65 : decode cX1_likes 65 = .ok (.iconst 0, 1) := dk_3 (dk_at dksX1_likes_2 20 rfl rfl)
theorem dX1_likes_66 : decode cX1_likes 66 = .ok (.ireturn, 1) := dk_172 (dk_at dksX1_likes_2 21 rfl rfl)
abbrev cX1_doLike : ByteArray := prog_1_method_48_code
def yX1_doLike : MethodName := ⟨RX1, "doLike", "(III)Z"⟩
def dkwX1_doLike_2 : List UInt8 := [182, 0, 243, 29, 182, 0, 196, 21, 4, 126, 184, 0, 199, 21, 5, 164, 0, 7, 4, 167, 0, 4, 3, 172]
abbrev dktX1_doLike_2 : List UInt8 := dkwX1_doLike_2 ++ []
def dkwX1_doLike_1 : List UInt8 := [182, 0, 196, 21, 4, 126, 184, 0, 199, 54, 5, 42, 180, 0, 40, 42, 180, 0, 33, 182, 0, 215, 27, 28]
abbrev dktX1_doLike_1 : List UInt8 := dkwX1_doLike_1 ++ dktX1_doLike_2
def dkwX1_doLike_0 : List UInt8 := [42, 180, 0, 33, 27, 182, 0, 140, 42, 180, 0, 33, 28, 182, 0, 140, 128, 54, 4, 42, 180, 0, 33, 29]
abbrev dktX1_doLike_0 : List UInt8 := dkwX1_doLike_0 ++ dktX1_doLike_1
theorem dksX1_doLike_0 : cX1_doLike.data.toList.drop 0 = dktX1_doLike_0 := by decide +kernel
theorem dksX1_doLike_1 : cX1_doLike.data.toList.drop 24 = dktX1_doLike_1 := dk_seg dksX1_doLike_0 24 rfl rfl
theorem dksX1_doLike_2 : cX1_doLike.data.toList.drop 48 = dktX1_doLike_2 := dk_seg dksX1_doLike_1 24 rfl rfl
theorem dX1_doLike_0 : decode cX1_doLike 0 = .ok (.aload_n 0, 1) := dk_42 (dk_at dksX1_doLike_0 0 rfl rfl)
theorem dX1_doLike_1 : decode cX1_doLike 1 = .ok (.getfield 33, 3) := dk_180 0 33 (dk_at dksX1_doLike_0 1 rfl rfl)
theorem dX1_doLike_4 : decode cX1_doLike 4 = .ok (.iload_n 1, 1) := dk_27 (dk_at dksX1_doLike_0 4 rfl rfl)
theorem dX1_doLike_5 : decode cX1_doLike 5 = .ok (.invokevirtual 140, 3) := dk_182 0 140 (dk_at dksX1_doLike_0 5 rfl rfl)
theorem dX1_doLike_8 : decode cX1_doLike 8 = .ok (.aload_n 0, 1) := dk_42 (dk_at dksX1_doLike_0 8 rfl rfl)
theorem dX1_doLike_9 : decode cX1_doLike 9 = .ok (.getfield 33, 3) := dk_180 0 33 (dk_at dksX1_doLike_0 9 rfl rfl)
theorem dX1_doLike_12 : decode cX1_doLike 12 = .ok (.iload_n 2, 1) := dk_28 (dk_at dksX1_doLike_0 12 rfl rfl)
theorem dX1_doLike_13 : decode cX1_doLike 13 = .ok (.invokevirtual 140, 3) := dk_182 0 140 (dk_at dksX1_doLike_0 13 rfl rfl)
theorem dX1_doLike_16 : decode cX1_doLike 16 = .ok (.ior, 1) := dk_128 (dk_at dksX1_doLike_0 16 rfl rfl)
theorem dX1_doLike_17 : decode cX1_doLike 17 = .ok (.istore 4, 2) := dk_54 4 (dk_at dksX1_doLike_0 17 rfl rfl)
theorem dX1_doLike_19 : decode cX1_doLike 19 = .ok (.aload_n 0, 1) := dk_42 (dk_at dksX1_doLike_0 19 rfl rfl)
theorem dX1_doLike_20 : decode cX1_doLike 20 = .ok (.getfield 33, 3) := dk_180 0 33 (dk_at dksX1_doLike_0 20 rfl rfl)
theorem dX1_doLike_23 : decode cX1_doLike 23 = .ok (.iload_n 3, 1) := dk_29 (dk_at dksX1_doLike_0 23 rfl rfl)
theorem dX1_doLike_24 : decode cX1_doLike 24 = .ok (.invokevirtual 196, 3) := dk_182 0 196 (dk_at dksX1_doLike_1 0 rfl rfl)
theorem dX1_doLike_27 : decode cX1_doLike 27 = .ok (.iload 4, 2) := dk_21 4 (dk_at dksX1_doLike_1 3 rfl rfl)
theorem dX1_doLike_29 : decode cX1_doLike 29 = .ok (.iand, 1) := dk_126 (dk_at dksX1_doLike_1 5 rfl rfl)
theorem dX1_doLike_30 : decode cX1_doLike 30 = .ok (.invokestatic 199, 3) := dk_184 0 199 (dk_at dksX1_doLike_1 6 rfl rfl)
theorem dX1_doLike_33 : decode cX1_doLike 33 = .ok (.istore 5, 2) := dk_54 5 (dk_at dksX1_doLike_1 9 rfl rfl)
theorem dX1_doLike_35 : decode cX1_doLike 35 = .ok (.aload_n 0, 1) := dk_42 (dk_at dksX1_doLike_1 11 rfl rfl)
theorem dX1_doLike_36 : decode cX1_doLike 36 = .ok (.getfield 40, 3) := dk_180 0 40 (dk_at dksX1_doLike_1 12 rfl rfl)
theorem dX1_doLike_39 : decode cX1_doLike 39 = .ok (.aload_n 0, 1) := dk_42 (dk_at dksX1_doLike_1 15 rfl rfl)
theorem dX1_doLike_40 : decode cX1_doLike 40 = .ok (.getfield 33, 3) := dk_180 0 33 (dk_at dksX1_doLike_1 16 rfl rfl)
theorem dX1_doLike_43 : decode cX1_doLike 43 = .ok (.invokevirtual 215, 3) := dk_182 0 215 (dk_at dksX1_doLike_1 19 rfl rfl)
theorem dX1_doLike_46 : decode cX1_doLike 46 = .ok (.iload_n 1, 1) := dk_27 (dk_at dksX1_doLike_1 22 rfl rfl)
theorem dX1_doLike_47 : decode cX1_doLike 47 = .ok (.iload_n 2, 1) := dk_28 (dk_at dksX1_doLike_1 23 rfl rfl)
theorem dX1_doLike_48 : decode cX1_doLike 48 = .ok (.invokevirtual 243, 3) := dk_182 0 243 (dk_at dksX1_doLike_2 0 rfl rfl)
theorem dX1_doLike_51 : decode cX1_doLike 51 = .ok (.iload_n 3, 1) := dk_29 (dk_at dksX1_doLike_2 3 rfl rfl)
theorem dX1_doLike_52 : decode cX1_doLike 52 = .ok (.invokevirtual 196, 3) := dk_182 0 196 (dk_at dksX1_doLike_2 4 rfl rfl)
theorem dX1_doLike_55 : decode cX1_doLike 55 = .ok (.iload 4, 2) := dk_21 4 (dk_at dksX1_doLike_2 7 rfl rfl)
theorem dX1_doLike_57 : decode cX1_doLike 57 = .ok (.iand, 1) := dk_126 (dk_at dksX1_doLike_2 9 rfl rfl)
theorem dX1_doLike_58 : decode cX1_doLike 58 = .ok (.invokestatic 199, 3) := dk_184 0 199 (dk_at dksX1_doLike_2 10 rfl rfl)
theorem dX1_doLike_61 : decode cX1_doLike 61 = .ok (.iload 5, 2) := dk_21 5 (dk_at dksX1_doLike_2 13 rfl rfl)
theorem dX1_doLike_63 : decode cX1_doLike 63 = .ok (.if_icmp .le 7, 3) := dk_164 0 7 (dk_at dksX1_doLike_2 15 rfl rfl)
theorem dX1_doLike_66 : decode cX1_doLike 66 = .ok (.iconst 1, 1) := dk_4 (dk_at dksX1_doLike_2 18 rfl rfl)
theorem dX1_doLike_67 : decode cX1_doLike 67 = .ok (.goto 4, 3) := dk_167 0 4 (dk_at dksX1_doLike_2 19 rfl rfl)
theorem dX1_doLike_70 : decode cX1_doLike 70 = .ok (.iconst 0, 1) := dk_3 (dk_at dksX1_doLike_2 22 rfl rfl)
theorem dX1_doLike_71 : decode cX1_doLike 71 = .ok (.ireturn, 1) := dk_172 (dk_at dksX1_doLike_2 23 rfl rfl)
abbrev cX1_restless : ByteArray := prog_1_method_50_code
def yX1_restless : MethodName := ⟨RX1, "restless", "(I)I"⟩
def dkwX1_restless_4 : List UInt8 := [132, 4, 1, 167, 255, 197, 29, 172]
abbrev dktX1_restless_4 : List UInt8 := dkwX1_restless_4 ++ []
def dkwX1_restless_3 : List UInt8 := [21, 4, 21, 5, 27, 182, 0, 247, 153, 0, 7, 4, 167, 0, 4, 3, 96, 62, 132, 5, 1, 167, 255, 221]
abbrev dktX1_restless_3 : List UInt8 := dkwX1_restless_3 ++ dktX1_restless_4
def dkwX1_restless_2 : List UInt8 := [162, 0, 53, 21, 4, 4, 96, 54, 5, 21, 5, 42, 180, 0, 98, 180, 0, 118, 162, 0, 29, 29, 42]
abbrev dktX1_restless_2 : List UInt8 := dkwX1_restless_2 ++ dktX1_restless_3
def dkwX1_restless_1 : List UInt8 := [153, 0, 9, 42, 28, 182, 0, 87, 172, 3, 62, 3, 54, 4, 21, 4, 42, 180, 0, 98, 180, 0, 118]
abbrev dktX1_restless_1 : List UInt8 := dkwX1_restless_1 ++ dktX1_restless_2
def dkwX1_restless_0 : List UInt8 := [42, 182, 0, 73, 42, 42, 180, 0, 98, 198, 0, 7, 4, 167, 0, 4, 3, 27, 182, 0, 178, 61, 28]
abbrev dktX1_restless_0 : List UInt8 := dkwX1_restless_0 ++ dktX1_restless_1
theorem dksX1_restless_0 : cX1_restless.data.toList.drop 0 = dktX1_restless_0 := by decide +kernel
theorem dksX1_restless_1 : cX1_restless.data.toList.drop 23 = dktX1_restless_1 := dk_seg dksX1_restless_0 23 rfl rfl
theorem dksX1_restless_2 : cX1_restless.data.toList.drop 46 = dktX1_restless_2 := dk_seg dksX1_restless_1 23 rfl rfl
theorem dksX1_restless_3 : cX1_restless.data.toList.drop 69 = dktX1_restless_3 := dk_seg dksX1_restless_2 23 rfl rfl
theorem dksX1_restless_4 : cX1_restless.data.toList.drop 93 = dktX1_restless_4 := dk_seg dksX1_restless_3 24 rfl rfl
theorem dX1_restless_0 : decode cX1_restless 0 = .ok (.aload_n 0, 1) := dk_42 (dk_at dksX1_restless_0 0 rfl rfl)
theorem dX1_restless_1 : decode cX1_restless 1 = .ok (.invokevirtual 73, 3) := dk_182 0 73 (dk_at dksX1_restless_0 1 rfl rfl)
theorem dX1_restless_4 : decode cX1_restless 4 = .ok (.aload_n 0, 1) := dk_42 (dk_at dksX1_restless_0 4 rfl rfl)
theorem dX1_restless_5 : decode cX1_restless 5 = .ok (.aload_n 0, 1) := dk_42 (dk_at dksX1_restless_0 5 rfl rfl)
theorem dX1_restless_6 : decode cX1_restless 6 = .ok (.getfield 98, 3) := dk_180 0 98 (dk_at dksX1_restless_0 6 rfl rfl)
theorem dX1_restless_9 : decode cX1_restless 9 = .ok (.ifnull 7, 3) := dk_198 0 7 (dk_at dksX1_restless_0 9 rfl rfl)
theorem dX1_restless_12 : decode cX1_restless 12 = .ok (.iconst 1, 1) := dk_4 (dk_at dksX1_restless_0 12 rfl rfl)
theorem dX1_restless_13 : decode cX1_restless 13 = .ok (.goto 4, 3) := dk_167 0 4 (dk_at dksX1_restless_0 13 rfl rfl)
theorem dX1_restless_16 : decode cX1_restless 16 = .ok (.iconst 0, 1) := dk_3 (dk_at dksX1_restless_0 16 rfl rfl)
theorem dX1_restless_17 : decode cX1_restless 17 = .ok (.iload_n 1, 1) := dk_27 (dk_at dksX1_restless_0 17 rfl rfl)
theorem dX1_restless_18 : decode cX1_restless 18 = .ok (.invokevirtual 178, 3) := dk_182 0 178 (dk_at dksX1_restless_0 18 rfl rfl)
theorem dX1_restless_21 : decode cX1_restless 21 = .ok (.istore_n 2, 1) := dk_61 (dk_at dksX1_restless_0 21 rfl rfl)
theorem dX1_restless_22 : decode cX1_restless 22 = .ok (.iload_n 2, 1) := dk_28 (dk_at dksX1_restless_0 22 rfl rfl)
theorem dX1_restless_23 : decode cX1_restless 23 = .ok (.ifCond .eq 9, 3) := dk_153 0 9 (dk_at dksX1_restless_1 0 rfl rfl)
theorem dX1_restless_26 : decode cX1_restless 26 = .ok (.aload_n 0, 1) := dk_42 (dk_at dksX1_restless_1 3 rfl rfl)
theorem dX1_restless_27 : decode cX1_restless 27 = .ok (.iload_n 2, 1) := dk_28 (dk_at dksX1_restless_1 4 rfl rfl)
theorem dX1_restless_28 : decode cX1_restless 28 = .ok (.invokevirtual 87, 3) := dk_182 0 87 (dk_at dksX1_restless_1 5 rfl rfl)
theorem dX1_restless_31 : decode cX1_restless 31 = .ok (.ireturn, 1) := dk_172 (dk_at dksX1_restless_1 8 rfl rfl)
theorem dX1_restless_32 : decode cX1_restless 32 = .ok (.iconst 0, 1) := dk_3 (dk_at dksX1_restless_1 9 rfl rfl)
theorem dX1_restless_33 : decode cX1_restless 33 = .ok (.istore_n 3, 1) := dk_62 (dk_at dksX1_restless_1 10 rfl rfl)
theorem dX1_restless_34 : decode cX1_restless 34 = .ok (.iconst 0, 1) := dk_3 (dk_at dksX1_restless_1 11 rfl rfl)
theorem dX1_restless_35 : decode cX1_restless 35 = .ok (.istore 4, 2) := dk_54 4 (dk_at dksX1_restless_1 12 rfl rfl)
theorem dX1_restless_37 : decode cX1_restless 37 = .ok (.iload 4, 2) := dk_21 4 (dk_at dksX1_restless_1 14 rfl rfl)
theorem dX1_restless_39 : decode cX1_restless 39 = .ok (.aload_n 0, 1) := dk_42 (dk_at dksX1_restless_1 16 rfl rfl)
theorem dX1_restless_40 : decode cX1_restless 40 = .ok (.getfield 98, 3) := dk_180 0 98 (dk_at dksX1_restless_1 17 rfl rfl)
theorem dX1_restless_43 : decode cX1_restless 43 = .ok (.getfield 118, 3) := dk_180 0 118 (dk_at dksX1_restless_1 20 rfl rfl)
theorem dX1_restless_46 : decode cX1_restless 46 = .ok (.if_icmp .ge 53, 3) := dk_162 0 53 (dk_at dksX1_restless_2 0 rfl rfl)
theorem dX1_restless_49 : decode cX1_restless 49 = .ok (.iload 4, 2) := dk_21 4 (dk_at dksX1_restless_2 3 rfl rfl)
theorem dX1_restless_51 : decode cX1_restless 51 = .ok (.iconst 1, 1) := dk_4 (dk_at dksX1_restless_2 5 rfl rfl)
theorem dX1_restless_52 : decode cX1_restless 52 = .ok (.iadd, 1) := dk_96 (dk_at dksX1_restless_2 6 rfl rfl)
theorem dX1_restless_53 : decode cX1_restless 53 = .ok (.istore 5, 2) := dk_54 5 (dk_at dksX1_restless_2 7 rfl rfl)
theorem dX1_restless_55 : decode cX1_restless 55 = .ok (.iload 5, 2) := dk_21 5 (dk_at dksX1_restless_2 9 rfl rfl)
theorem dX1_restless_57 : decode cX1_restless 57 = .ok (.aload_n 0, 1) := dk_42 (dk_at dksX1_restless_2 11 rfl rfl)
theorem dX1_restless_58 : decode cX1_restless 58 = .ok (.getfield 98, 3) := dk_180 0 98 (dk_at dksX1_restless_2 12 rfl rfl)
theorem dX1_restless_61 : decode cX1_restless 61 = .ok (.getfield 118, 3) := dk_180 0 118 (dk_at dksX1_restless_2 15 rfl rfl)
theorem dX1_restless_64 : decode cX1_restless 64 = .ok (.if_icmp .ge 29, 3) := dk_162 0 29 (dk_at dksX1_restless_2 18 rfl rfl)
theorem dX1_restless_67 : decode cX1_restless 67 = .ok (.iload_n 3, 1) := dk_29 (dk_at dksX1_restless_2 21 rfl rfl)
theorem dX1_restless_68 : decode cX1_restless 68 = .ok (.aload_n 0, 1) := dk_42 (dk_at dksX1_restless_2 22 rfl rfl)
theorem dX1_restless_69 : decode cX1_restless 69 = .ok (.iload 4, 2) := dk_21 4 (dk_at dksX1_restless_3 0 rfl rfl)
theorem dX1_restless_71 : decode cX1_restless 71 = .ok (.iload 5, 2) := dk_21 5 (dk_at dksX1_restless_3 2 rfl rfl)
theorem dX1_restless_73 : decode cX1_restless 73 = .ok (.iload_n 1, 1) := dk_27 (dk_at dksX1_restless_3 4 rfl rfl)
theorem dX1_restless_74 : decode cX1_restless 74 = .ok (.invokevirtual 247, 3) := dk_182 0 247 (dk_at dksX1_restless_3 5 rfl rfl)
theorem dX1_restless_77 : decode cX1_restless 77 = .ok (.ifCond .eq 7, 3) := dk_153 0 7 (dk_at dksX1_restless_3 8 rfl rfl)
theorem dX1_restless_80 : decode cX1_restless 80 = .ok (.iconst 1, 1) := dk_4 (dk_at dksX1_restless_3 11 rfl rfl)
theorem dX1_restless_81 : decode cX1_restless 81 = .ok (.goto 4, 3) := dk_167 0 4 (dk_at dksX1_restless_3 12 rfl rfl)
theorem dX1_restless_84 : decode cX1_restless 84 = .ok (.iconst 0, 1) := dk_3 (dk_at dksX1_restless_3 15 rfl rfl)
theorem dX1_restless_85 : decode cX1_restless 85 = .ok (.iadd, 1) := dk_96 (dk_at dksX1_restless_3 16 rfl rfl)
theorem dX1_restless_86 : decode cX1_restless 86 = .ok (.istore_n 3, 1) := dk_62 (dk_at dksX1_restless_3 17 rfl rfl)
theorem dX1_restless_87 : decode cX1_restless 87 = .ok (.iinc 5 1, 3) := dk_132 5 1 (dk_at dksX1_restless_3 18 rfl rfl)
theorem dX1_restless_90 : decode cX1_restless 90 = .ok (.goto (-35), 3) := dk_167 255 221 (dk_at dksX1_restless_3 21 rfl rfl)
theorem dX1_restless_93 : decode cX1_restless 93 = .ok (.iinc 4 1, 3) := dk_132 4 1 (dk_at dksX1_restless_4 0 rfl rfl)
theorem dX1_restless_96 : decode cX1_restless 96 = .ok (.goto (-59), 3) := dk_167 255 197 (dk_at dksX1_restless_4 3 rfl rfl)
theorem dX1_restless_99 : decode cX1_restless 99 = .ok (.iload_n 3, 1) := dk_29 (dk_at dksX1_restless_4 6 rfl rfl)
theorem dX1_restless_100 : decode cX1_restless 100 = .ok (.ireturn, 1) := dk_172 (dk_at dksX1_restless_4 7 rfl rfl)
abbrev cX1_moveFor : ByteArray := prog_1_method_51_code
def yX1_moveFor : MethodName := ⟨RX1, "moveFor", "(II)I"⟩
def dkwX1_moveFor_5 : List UInt8 := [54, 4, 21, 7, 54, 5, 132, 6, 1, 167, 255, 175, 21, 4, 172]
abbrev dktX1_moveFor_5 : List UInt8 := dkwX1_moveFor_5 ++ []
def dkwX1_moveFor_4 : List UInt8 := [180, 0, 40, 28, 182, 0, 196, 184, 0, 199, 54, 7, 21, 7, 21, 5, 163, 0, 6, 167, 0, 11, 21, 6]
abbrev dktX1_moveFor_4 : List UInt8 := dkwX1_moveFor_4 ++ dktX1_moveFor_5
def dkwX1_moveFor_3 : List UInt8 := [167, 0, 52, 42, 180, 0, 40, 42, 180, 0, 33, 182, 0, 215, 180, 0, 137, 27, 21, 6, 79, 42]
abbrev dktX1_moveFor_3 : List UInt8 := dkwX1_moveFor_3 ++ dktX1_moveFor_4
def dkwX1_moveFor_2 : List UInt8 := [180, 0, 98, 180, 0, 126, 162, 0, 75, 42, 180, 0, 33, 21, 6, 182, 0, 175, 16, 254, 159, 0, 6]
abbrev dktX1_moveFor_2 : List UInt8 := dkwX1_moveFor_2 ++ dktX1_moveFor_3
def dkwX1_moveFor_1 : List UInt8 := [172, 16, 254, 54, 4, 42, 180, 0, 33, 28, 182, 0, 196, 184, 0, 199, 54, 5, 3, 54, 6, 21, 6, 42]
abbrev dktX1_moveFor_1 : List UInt8 := dkwX1_moveFor_1 ++ dktX1_moveFor_2
def dkwX1_moveFor_0 : List UInt8 := [42, 182, 0, 73, 42, 42, 27, 182, 0, 133, 28, 182, 0, 178, 62, 29, 153, 0, 9, 42, 29, 182, 0, 87]
abbrev dktX1_moveFor_0 : List UInt8 := dkwX1_moveFor_0 ++ dktX1_moveFor_1
theorem dksX1_moveFor_0 : cX1_moveFor.data.toList.drop 0 = dktX1_moveFor_0 := by decide +kernel
theorem dksX1_moveFor_1 : cX1_moveFor.data.toList.drop 24 = dktX1_moveFor_1 := dk_seg dksX1_moveFor_0 24 rfl rfl
theorem dksX1_moveFor_2 : cX1_moveFor.data.toList.drop 48 = dktX1_moveFor_2 := dk_seg dksX1_moveFor_1 24 rfl rfl
theorem dksX1_moveFor_3 : cX1_moveFor.data.toList.drop 71 = dktX1_moveFor_3 := dk_seg dksX1_moveFor_2 23 rfl rfl
theorem dksX1_moveFor_4 : cX1_moveFor.data.toList.drop 93 = dktX1_moveFor_4 := dk_seg dksX1_moveFor_3 22 rfl rfl
theorem dksX1_moveFor_5 : cX1_moveFor.data.toList.drop 117 = dktX1_moveFor_5 := dk_seg dksX1_moveFor_4 24 rfl rfl
theorem dX1_moveFor_0 : decode cX1_moveFor 0 = .ok (.aload_n 0, 1) := dk_42 (dk_at dksX1_moveFor_0 0 rfl rfl)
theorem dX1_moveFor_1 : decode cX1_moveFor 1 = .ok (.invokevirtual 73, 3) := dk_182 0 73 (dk_at dksX1_moveFor_0 1 rfl rfl)
theorem dX1_moveFor_4 : decode cX1_moveFor 4 = .ok (.aload_n 0, 1) := dk_42 (dk_at dksX1_moveFor_0 4 rfl rfl)
theorem dX1_moveFor_5 : decode cX1_moveFor 5 = .ok (.aload_n 0, 1) := dk_42 (dk_at dksX1_moveFor_0 5 rfl rfl)
theorem dX1_moveFor_6 : decode cX1_moveFor 6 = .ok (.iload_n 1, 1) := dk_27 (dk_at dksX1_moveFor_0 6 rfl rfl)
theorem dX1_moveFor_7 : decode cX1_moveFor 7 = .ok (.invokevirtual 133, 3) := dk_182 0 133 (dk_at dksX1_moveFor_0 7 rfl rfl)
theorem dX1_moveFor_10 : decode cX1_moveFor 10 = .ok (.iload_n 2, 1) := dk_28 (dk_at dksX1_moveFor_0 10 rfl rfl)
theorem dX1_moveFor_11 : decode cX1_moveFor 11 = .ok (.invokevirtual 178, 3) := dk_182 0 178 (dk_at dksX1_moveFor_0 11 rfl rfl)
theorem dX1_moveFor_14 : decode cX1_moveFor 14 = .ok (.istore_n 3, 1) := dk_62 (dk_at dksX1_moveFor_0 14 rfl rfl)
theorem dX1_moveFor_15 : decode cX1_moveFor 15 = .ok (.iload_n 3, 1) := dk_29 (dk_at dksX1_moveFor_0 15 rfl rfl)
theorem dX1_moveFor_16 : decode cX1_moveFor 16 = .ok (.ifCond .eq 9, 3) := dk_153 0 9 (dk_at dksX1_moveFor_0 16 rfl rfl)
theorem dX1_moveFor_19 : decode cX1_moveFor 19 = .ok (.aload_n 0, 1) := dk_42 (dk_at dksX1_moveFor_0 19 rfl rfl)
theorem dX1_moveFor_20 : decode cX1_moveFor 20 = .ok (.iload_n 3, 1) := dk_29 (dk_at dksX1_moveFor_0 20 rfl rfl)
theorem dX1_moveFor_21 : decode cX1_moveFor 21 = .ok (.invokevirtual 87, 3) := dk_182 0 87 (dk_at dksX1_moveFor_0 21 rfl rfl)
theorem dX1_moveFor_24 : decode cX1_moveFor 24 = .ok (.ireturn, 1) := dk_172 (dk_at dksX1_moveFor_1 0 rfl rfl)
theorem dX1_moveFor_25 : decode cX1_moveFor 25 = .ok (.bipush (-2), 2) := dk_16 254 (dk_at dksX1_moveFor_1 1 rfl rfl)
theorem dX1_moveFor_27 : decode cX1_moveFor 27 = .ok (.istore 4, 2) := dk_54 4 (dk_at dksX1_moveFor_1 3 rfl rfl)
theorem dX1_moveFor_29 : decode cX1_moveFor 29 = .ok (.aload_n 0, 1) := dk_42 (dk_at dksX1_moveFor_1 5 rfl rfl)
theorem dX1_moveFor_30 : decode cX1_moveFor 30 = .ok (.getfield 33, 3) := dk_180 0 33 (dk_at dksX1_moveFor_1 6 rfl rfl)
theorem dX1_moveFor_33 : decode cX1_moveFor 33 = .ok (.iload_n 2, 1) := dk_28 (dk_at dksX1_moveFor_1 9 rfl rfl)
theorem dX1_moveFor_34 : decode cX1_moveFor 34 = .ok (.invokevirtual 196, 3) := dk_182 0 196 (dk_at dksX1_moveFor_1 10 rfl rfl)
theorem dX1_moveFor_37 : decode cX1_moveFor 37 = .ok (.invokestatic 199, 3) := dk_184 0 199 (dk_at dksX1_moveFor_1 13 rfl rfl)
theorem dX1_moveFor_40 : decode cX1_moveFor 40 = .ok (.istore 5, 2) := dk_54 5 (dk_at dksX1_moveFor_1 16 rfl rfl)
theorem dX1_moveFor_42 : decode cX1_moveFor 42 = .ok (.iconst 0, 1) := dk_3 (dk_at dksX1_moveFor_1 18 rfl rfl)
theorem dX1_moveFor_43 : decode cX1_moveFor 43 = .ok (.istore 6, 2) := dk_54 6 (dk_at dksX1_moveFor_1 19 rfl rfl)
theorem dX1_moveFor_45 : decode cX1_moveFor 45 = .ok (.iload 6, 2) := dk_21 6 (dk_at dksX1_moveFor_1 21 rfl rfl)
theorem dX1_moveFor_47 : decode cX1_moveFor 47 = .ok (.aload_n 0, 1) := dk_42 (dk_at dksX1_moveFor_1 23 rfl rfl)
theorem dX1_moveFor_48 : decode cX1_moveFor 48 = .ok (.getfield 98, 3) := dk_180 0 98 (dk_at dksX1_moveFor_2 0 rfl rfl)
theorem dX1_moveFor_51 : decode cX1_moveFor 51 = .ok (.getfield 126, 3) := dk_180 0 126 (dk_at dksX1_moveFor_2 3 rfl rfl)
theorem dX1_moveFor_54 : decode cX1_moveFor 54 = .ok (.if_icmp .ge 75, 3) := dk_162 0 75 (dk_at dksX1_moveFor_2 6 rfl rfl)
theorem dX1_moveFor_57 : decode cX1_moveFor 57 = .ok (.aload_n 0, 1) := dk_42 (dk_at dksX1_moveFor_2 9 rfl rfl)
theorem dX1_moveFor_58 : decode cX1_moveFor 58 = .ok (.getfield 33, 3) := dk_180 0 33 (dk_at dksX1_moveFor_2 10 rfl rfl)
theorem dX1_moveFor_61 : decode cX1_moveFor 61 = .ok (.iload 6, 2) := dk_21 6 (dk_at dksX1_moveFor_2 13 rfl rfl)
theorem dX1_moveFor_63 : decode cX1_moveFor 63 = .ok (.invokevirtual 175, 3) := dk_182 0 175 (dk_at dksX1_moveFor_2 15 rfl rfl)
theorem dX1_moveFor_66 : decode cX1_moveFor 66 = .ok (.bipush (-2), 2) := dk_16 254 (dk_at dksX1_moveFor_2 18 rfl rfl)
theorem dX1_moveFor_68 : decode cX1_moveFor 68 = .ok (.if_icmp .eq 6, 3) := dk_159 0 6 (dk_at dksX1_moveFor_2 20 rfl rfl)
theorem dX1_moveFor_71 : decode cX1_moveFor 71 = .ok (.goto 52, 3) := dk_167 0 52 (dk_at dksX1_moveFor_3 0 rfl rfl)
theorem dX1_moveFor_74 : decode cX1_moveFor 74 = .ok (.aload_n 0, 1) := dk_42 (dk_at dksX1_moveFor_3 3 rfl rfl)
theorem dX1_moveFor_75 : decode cX1_moveFor 75 = .ok (.getfield 40, 3) := dk_180 0 40 (dk_at dksX1_moveFor_3 4 rfl rfl)
theorem dX1_moveFor_78 : decode cX1_moveFor 78 = .ok (.aload_n 0, 1) := dk_42 (dk_at dksX1_moveFor_3 7 rfl rfl)
theorem dX1_moveFor_79 : decode cX1_moveFor 79 = .ok (.getfield 33, 3) := dk_180 0 33 (dk_at dksX1_moveFor_3 8 rfl rfl)
theorem dX1_moveFor_82 : decode cX1_moveFor 82 = .ok (.invokevirtual 215, 3) := dk_182 0 215 (dk_at dksX1_moveFor_3 11 rfl rfl)
theorem dX1_moveFor_85 : decode cX1_moveFor 85 = .ok (.getfield 137, 3) := dk_180 0 137 (dk_at dksX1_moveFor_3 14 rfl rfl)
theorem dX1_moveFor_88 : decode cX1_moveFor 88 = .ok (.iload_n 1, 1) := dk_27 (dk_at dksX1_moveFor_3 17 rfl rfl)
theorem dX1_moveFor_89 : decode cX1_moveFor 89 = .ok (.iload 6, 2) := dk_21 6 (dk_at dksX1_moveFor_3 18 rfl rfl)
theorem dX1_moveFor_91 : decode cX1_moveFor 91 = .ok (.iastore, 1) := dk_79 (dk_at dksX1_moveFor_3 20 rfl rfl)
theorem dX1_moveFor_92 : decode cX1_moveFor 92 = .ok (.aload_n 0, 1) := dk_42 (dk_at dksX1_moveFor_3 21 rfl rfl)
theorem dX1_moveFor_93 : decode cX1_moveFor 93 = .ok (.getfield 40, 3) := dk_180 0 40 (dk_at dksX1_moveFor_4 0 rfl rfl)
theorem dX1_moveFor_96 : decode cX1_moveFor 96 = .ok (.iload_n 2, 1) := dk_28 (dk_at dksX1_moveFor_4 3 rfl rfl)
theorem dX1_moveFor_97 : decode cX1_moveFor 97 = .ok (.invokevirtual 196, 3) := dk_182 0 196 (dk_at dksX1_moveFor_4 4 rfl rfl)
theorem dX1_moveFor_100 : decode cX1_moveFor 100 = .ok (.invokestatic 199, 3) := dk_184 0 199 (dk_at dksX1_moveFor_4 7 rfl rfl)
theorem dX1_moveFor_103 : decode cX1_moveFor 103 = .ok (.istore 7, 2) := dk_54 7 (dk_at dksX1_moveFor_4 10 rfl rfl)
theorem dX1_moveFor_105 : decode cX1_moveFor 105 = .ok (.iload 7, 2) := dk_21 7 (dk_at dksX1_moveFor_4 12 rfl rfl)
theorem dX1_moveFor_107 : decode cX1_moveFor 107 = .ok (.iload 5, 2) := dk_21 5 (dk_at dksX1_moveFor_4 14 rfl rfl)
theorem dX1_moveFor_109 : decode cX1_moveFor 109 = .ok (.if_icmp .gt 6, 3) := dk_163 0 6 (dk_at dksX1_moveFor_4 16 rfl rfl)
theorem dX1_moveFor_112 : decode cX1_moveFor 112 = .ok (.goto 11, 3) := dk_167 0 11 (dk_at dksX1_moveFor_4 19 rfl rfl)
theorem dX1_moveFor_115 : decode cX1_moveFor 115 = .ok (.iload 6, 2) := dk_21 6 (dk_at dksX1_moveFor_4 22 rfl rfl)
theorem dX1_moveFor_117 : decode cX1_moveFor 117 = .ok (.istore 4, 2) := dk_54 4 (dk_at dksX1_moveFor_5 0 rfl rfl)
theorem dX1_moveFor_119 : decode cX1_moveFor 119 = .ok (.iload 7, 2) := dk_21 7 (dk_at dksX1_moveFor_5 2 rfl rfl)
theorem dX1_moveFor_121 : decode cX1_moveFor 121 = .ok (.istore 5, 2) := dk_54 5 (dk_at dksX1_moveFor_5 4 rfl rfl)
theorem dX1_moveFor_123 : decode cX1_moveFor 123 = .ok (.iinc 6 1, 3) := dk_132 6 1 (dk_at dksX1_moveFor_5 6 rfl rfl)
theorem dX1_moveFor_126 : decode cX1_moveFor 126 = .ok (.goto (-81), 3) := dk_167 255 175 (dk_at dksX1_moveFor_5 9 rfl rfl)
theorem dX1_moveFor_129 : decode cX1_moveFor 129 = .ok (.iload 4, 2) := dk_21 4 (dk_at dksX1_moveFor_5 12 rfl rfl)
theorem dX1_moveFor_131 : decode cX1_moveFor 131 = .ok (.ireturn, 1) := dk_172 (dk_at dksX1_moveFor_5 14 rfl rfl)
abbrev cX1_bring : ByteArray := prog_1_method_52_code
def yX1_bring : MethodName := ⟨RX1, "bring", "(II)I"⟩
def dkwX1_bring_2 : List UInt8 := [180, 0, 126, 182, 0, 254, 172]
abbrev dktX1_bring_2 : List UInt8 := dkwX1_bring_2 ++ []
def dkwX1_bring_1 : List UInt8 := [167, 0, 30, 42, 180, 0, 46, 42, 180, 0, 98, 42, 180, 0, 33, 28, 182, 0, 250, 27, 42, 180, 0, 98]
abbrev dktX1_bring_1 : List UInt8 := dkwX1_bring_1 ++ dktX1_bring_2
def dkwX1_bring_0 : List UInt8 := [42, 182, 0, 73, 42, 42, 27, 182, 0, 172, 28, 182, 0, 178, 62, 29, 153, 0, 11, 42, 29, 182, 0, 87]
abbrev dktX1_bring_0 : List UInt8 := dkwX1_bring_0 ++ dktX1_bring_1
theorem dksX1_bring_0 : cX1_bring.data.toList.drop 0 = dktX1_bring_0 := by decide +kernel
theorem dksX1_bring_1 : cX1_bring.data.toList.drop 24 = dktX1_bring_1 := dk_seg dksX1_bring_0 24 rfl rfl
theorem dksX1_bring_2 : cX1_bring.data.toList.drop 48 = dktX1_bring_2 := dk_seg dksX1_bring_1 24 rfl rfl
theorem dX1_bring_0 : decode cX1_bring 0 = .ok (.aload_n 0, 1) := dk_42 (dk_at dksX1_bring_0 0 rfl rfl)
theorem dX1_bring_1 : decode cX1_bring 1 = .ok (.invokevirtual 73, 3) := dk_182 0 73 (dk_at dksX1_bring_0 1 rfl rfl)
theorem dX1_bring_4 : decode cX1_bring 4 = .ok (.aload_n 0, 1) := dk_42 (dk_at dksX1_bring_0 4 rfl rfl)
theorem dX1_bring_5 : decode cX1_bring 5 = .ok (.aload_n 0, 1) := dk_42 (dk_at dksX1_bring_0 5 rfl rfl)
theorem dX1_bring_6 : decode cX1_bring 6 = .ok (.iload_n 1, 1) := dk_27 (dk_at dksX1_bring_0 6 rfl rfl)
theorem dX1_bring_7 : decode cX1_bring 7 = .ok (.invokevirtual 172, 3) := dk_182 0 172 (dk_at dksX1_bring_0 7 rfl rfl)
theorem dX1_bring_10 : decode cX1_bring 10 = .ok (.iload_n 2, 1) := dk_28 (dk_at dksX1_bring_0 10 rfl rfl)
theorem dX1_bring_11 : decode cX1_bring 11 = .ok (.invokevirtual 178, 3) := dk_182 0 178 (dk_at dksX1_bring_0 11 rfl rfl)
theorem dX1_bring_14 : decode cX1_bring 14 = .ok (.istore_n 3, 1) := dk_62 (dk_at dksX1_bring_0 14 rfl rfl)
theorem dX1_bring_15 : decode cX1_bring 15 = .ok (.iload_n 3, 1) := dk_29 (dk_at dksX1_bring_0 15 rfl rfl)
theorem dX1_bring_16 : decode cX1_bring 16 = .ok (.ifCond .eq 11, 3) := dk_153 0 11 (dk_at dksX1_bring_0 16 rfl rfl)
theorem dX1_bring_19 : decode cX1_bring 19 = .ok (.aload_n 0, 1) := dk_42 (dk_at dksX1_bring_0 19 rfl rfl)
theorem dX1_bring_20 : decode cX1_bring 20 = .ok (.iload_n 3, 1) := dk_29 (dk_at dksX1_bring_0 20 rfl rfl)
theorem dX1_bring_21 : decode cX1_bring 21 = .ok (.invokevirtual 87, 3) := dk_182 0 87 (dk_at dksX1_bring_0 21 rfl rfl)
theorem dX1_bring_24 : decode cX1_bring 24 = .ok (.goto 30, 3) := dk_167 0 30 (dk_at dksX1_bring_1 0 rfl rfl)
theorem dX1_bring_27 : decode cX1_bring 27 = .ok (.aload_n 0, 1) := dk_42 (dk_at dksX1_bring_1 3 rfl rfl)
theorem dX1_bring_28 : decode cX1_bring 28 = .ok (.getfield 46, 3) := dk_180 0 46 (dk_at dksX1_bring_1 4 rfl rfl)
theorem dX1_bring_31 : decode cX1_bring 31 = .ok (.aload_n 0, 1) := dk_42 (dk_at dksX1_bring_1 7 rfl rfl)
theorem dX1_bring_32 : decode cX1_bring 32 = .ok (.getfield 98, 3) := dk_180 0 98 (dk_at dksX1_bring_1 8 rfl rfl)
theorem dX1_bring_35 : decode cX1_bring 35 = .ok (.aload_n 0, 1) := dk_42 (dk_at dksX1_bring_1 11 rfl rfl)
theorem dX1_bring_36 : decode cX1_bring 36 = .ok (.getfield 33, 3) := dk_180 0 33 (dk_at dksX1_bring_1 12 rfl rfl)
theorem dX1_bring_39 : decode cX1_bring 39 = .ok (.iload_n 2, 1) := dk_28 (dk_at dksX1_bring_1 15 rfl rfl)
theorem dX1_bring_40 : decode cX1_bring 40 = .ok (.invokevirtual 250, 3) := dk_182 0 250 (dk_at dksX1_bring_1 16 rfl rfl)
theorem dX1_bring_43 : decode cX1_bring 43 = .ok (.iload_n 1, 1) := dk_27 (dk_at dksX1_bring_1 19 rfl rfl)
theorem dX1_bring_44 : decode cX1_bring 44 = .ok (.aload_n 0, 1) := dk_42 (dk_at dksX1_bring_1 20 rfl rfl)
theorem dX1_bring_45 : decode cX1_bring 45 = .ok (.getfield 98, 3) := dk_180 0 98 (dk_at dksX1_bring_1 21 rfl rfl)
theorem dX1_bring_48 : decode cX1_bring 48 = .ok (.getfield 126, 3) := dk_180 0 126 (dk_at dksX1_bring_2 0 rfl rfl)
theorem dX1_bring_51 : decode cX1_bring 51 = .ok (.invokevirtual 254, 3) := dk_182 0 254 (dk_at dksX1_bring_2 3 rfl rfl)
theorem dX1_bring_54 : decode cX1_bring 54 = .ok (.ireturn, 1) := dk_172 (dk_at dksX1_bring_2 6 rfl rfl)
abbrev cX1_bringFrom : ByteArray := prog_1_method_53_code
def yX1_bringFrom : MethodName := ⟨RX1, "bringFrom", "(I)I"⟩
def dkwX1_bringFrom_4 : List UInt8 := [21, 4, 161, 0, 6, 167, 0, 10, 21, 5, 62, 21, 6, 54, 4, 132, 5, 1, 167, 255, 206, 29, 172]
abbrev dktX1_bringFrom_4 : List UInt8 := dkwX1_bringFrom_4 ++ []
def dkwX1_bringFrom_3 : List UInt8 := [162, 0, 44, 42, 180, 0, 46, 21, 5, 42, 180, 0, 98, 180, 0, 126, 182, 0, 254, 54, 6, 21, 6]
abbrev dktX1_bringFrom_3 : List UInt8 := dkwX1_bringFrom_3 ++ dktX1_bringFrom_4
def dkwX1_bringFrom_2 : List UInt8 := [182, 0, 250, 87, 16, 254, 62, 19, 1, 1, 54, 4, 3, 54, 5, 21, 5, 42, 180, 0, 98, 180, 0, 126]
abbrev dktX1_bringFrom_2 : List UInt8 := dkwX1_bringFrom_2 ++ dktX1_bringFrom_3
def dkwX1_bringFrom_1 : List UInt8 := [153, 0, 9, 42, 28, 182, 0, 87, 172, 42, 180, 0, 46, 42, 180, 0, 98, 42, 180, 0, 33, 27]
abbrev dktX1_bringFrom_1 : List UInt8 := dkwX1_bringFrom_1 ++ dktX1_bringFrom_2
def dkwX1_bringFrom_0 : List UInt8 := [42, 182, 0, 73, 42, 42, 180, 0, 98, 198, 0, 7, 4, 167, 0, 4, 3, 27, 182, 0, 178, 61, 28]
abbrev dktX1_bringFrom_0 : List UInt8 := dkwX1_bringFrom_0 ++ dktX1_bringFrom_1
theorem dksX1_bringFrom_0 : cX1_bringFrom.data.toList.drop 0 = dktX1_bringFrom_0 := by decide +kernel
theorem dksX1_bringFrom_1 : cX1_bringFrom.data.toList.drop 23 = dktX1_bringFrom_1 := dk_seg dksX1_bringFrom_0 23 rfl rfl
theorem dksX1_bringFrom_2 : cX1_bringFrom.data.toList.drop 45 = dktX1_bringFrom_2 := dk_seg dksX1_bringFrom_1 22 rfl rfl
theorem dksX1_bringFrom_3 : cX1_bringFrom.data.toList.drop 69 = dktX1_bringFrom_3 := dk_seg dksX1_bringFrom_2 24 rfl rfl
theorem dksX1_bringFrom_4 : cX1_bringFrom.data.toList.drop 92 = dktX1_bringFrom_4 := dk_seg dksX1_bringFrom_3 23 rfl rfl
theorem dX1_bringFrom_0 : decode cX1_bringFrom 0 = .ok (.aload_n 0, 1) := dk_42 (dk_at dksX1_bringFrom_0 0 rfl rfl)
theorem dX1_bringFrom_1 : decode cX1_bringFrom 1 = .ok (.invokevirtual 73, 3) := dk_182 0 73 (dk_at dksX1_bringFrom_0 1 rfl rfl)
theorem dX1_bringFrom_4 : decode cX1_bringFrom 4 = .ok (.aload_n 0, 1) := dk_42 (dk_at dksX1_bringFrom_0 4 rfl rfl)
theorem dX1_bringFrom_5 : decode cX1_bringFrom 5 = .ok (.aload_n 0, 1) := dk_42 (dk_at dksX1_bringFrom_0 5 rfl rfl)
theorem dX1_bringFrom_6 : decode cX1_bringFrom 6 = .ok (.getfield 98, 3) := dk_180 0 98 (dk_at dksX1_bringFrom_0 6 rfl rfl)
theorem dX1_bringFrom_9 : decode cX1_bringFrom 9 = .ok (.ifnull 7, 3) := dk_198 0 7 (dk_at dksX1_bringFrom_0 9 rfl rfl)
theorem dX1_bringFrom_12 : decode cX1_bringFrom 12 = .ok (.iconst 1, 1) := dk_4 (dk_at dksX1_bringFrom_0 12 rfl rfl)
theorem dX1_bringFrom_13 : decode cX1_bringFrom 13 = .ok (.goto 4, 3) := dk_167 0 4 (dk_at dksX1_bringFrom_0 13 rfl rfl)
theorem dX1_bringFrom_16 : decode cX1_bringFrom 16 = .ok (.iconst 0, 1) := dk_3 (dk_at dksX1_bringFrom_0 16 rfl rfl)
theorem dX1_bringFrom_17 : decode cX1_bringFrom 17 = .ok (.iload_n 1, 1) := dk_27 (dk_at dksX1_bringFrom_0 17 rfl rfl)
theorem dX1_bringFrom_18 : decode cX1_bringFrom 18 = .ok (.invokevirtual 178, 3) := dk_182 0 178 (dk_at dksX1_bringFrom_0 18 rfl rfl)
theorem dX1_bringFrom_21 : decode cX1_bringFrom 21 = .ok (.istore_n 2, 1) := dk_61 (dk_at dksX1_bringFrom_0 21 rfl rfl)
theorem dX1_bringFrom_22 : decode cX1_bringFrom 22 = .ok (.iload_n 2, 1) := dk_28 (dk_at dksX1_bringFrom_0 22 rfl rfl)
theorem dX1_bringFrom_23 : decode cX1_bringFrom 23 = .ok (.ifCond .eq 9, 3) := dk_153 0 9 (dk_at dksX1_bringFrom_1 0 rfl rfl)
theorem dX1_bringFrom_26 : decode cX1_bringFrom 26 = .ok (.aload_n 0, 1) := dk_42 (dk_at dksX1_bringFrom_1 3 rfl rfl)
theorem dX1_bringFrom_27 : decode cX1_bringFrom 27 = .ok (.iload_n 2, 1) := dk_28 (dk_at dksX1_bringFrom_1 4 rfl rfl)
theorem dX1_bringFrom_28 : decode cX1_bringFrom 28 = .ok (.invokevirtual 87, 3) := dk_182 0 87 (dk_at dksX1_bringFrom_1 5 rfl rfl)
theorem dX1_bringFrom_31 : decode cX1_bringFrom 31 = .ok (.ireturn, 1) := dk_172 (dk_at dksX1_bringFrom_1 8 rfl rfl)
theorem dX1_bringFrom_32 : decode cX1_bringFrom 32 = .ok (.aload_n 0, 1) := dk_42 (dk_at dksX1_bringFrom_1 9 rfl rfl)
theorem dX1_bringFrom_33 : decode cX1_bringFrom 33 = .ok (.getfield 46, 3) := dk_180 0 46 (dk_at dksX1_bringFrom_1 10 rfl rfl)
theorem dX1_bringFrom_36 : decode cX1_bringFrom 36 = .ok (.aload_n 0, 1) := dk_42 (dk_at dksX1_bringFrom_1 13 rfl rfl)
theorem dX1_bringFrom_37 : decode cX1_bringFrom 37 = .ok (.getfield 98, 3) := dk_180 0 98 (dk_at dksX1_bringFrom_1 14 rfl rfl)
theorem dX1_bringFrom_40 : decode cX1_bringFrom 40 = .ok (.aload_n 0, 1) := dk_42 (dk_at dksX1_bringFrom_1 17 rfl rfl)
theorem dX1_bringFrom_41 : decode cX1_bringFrom 41 = .ok (.getfield 33, 3) := dk_180 0 33 (dk_at dksX1_bringFrom_1 18 rfl rfl)
theorem dX1_bringFrom_44 : decode cX1_bringFrom 44 = .ok (.iload_n 1, 1) := dk_27 (dk_at dksX1_bringFrom_1 21 rfl rfl)
theorem dX1_bringFrom_45 : decode cX1_bringFrom 45 = .ok (.invokevirtual 250, 3) := dk_182 0 250 (dk_at dksX1_bringFrom_2 0 rfl rfl)
theorem dX1_bringFrom_48 : decode cX1_bringFrom 48 = .ok (.pop, 1) := dk_87 (dk_at dksX1_bringFrom_2 3 rfl rfl)
theorem dX1_bringFrom_49 : decode cX1_bringFrom 49 = .ok (.bipush (-2), 2) := dk_16 254 (dk_at dksX1_bringFrom_2 4 rfl rfl)
theorem dX1_bringFrom_51 : decode cX1_bringFrom 51 = .ok (.istore_n 3, 1) := dk_62 (dk_at dksX1_bringFrom_2 6 rfl rfl)
theorem dX1_bringFrom_52 : decode cX1_bringFrom 52 = .ok (.ldc_w 257, 3) := dk_19 1 1 (dk_at dksX1_bringFrom_2 7 rfl rfl)
theorem dX1_bringFrom_55 : decode cX1_bringFrom 55 = .ok (.istore 4, 2) := dk_54 4 (dk_at dksX1_bringFrom_2 10 rfl rfl)
theorem dX1_bringFrom_57 : decode cX1_bringFrom 57 = .ok (.iconst 0, 1) := dk_3 (dk_at dksX1_bringFrom_2 12 rfl rfl)
theorem dX1_bringFrom_58 : decode cX1_bringFrom 58 = .ok (.istore 5, 2) := dk_54 5 (dk_at dksX1_bringFrom_2 13 rfl rfl)
theorem dX1_bringFrom_60 : decode cX1_bringFrom 60 = .ok (.iload 5, 2) := dk_21 5 (dk_at dksX1_bringFrom_2 15 rfl rfl)
theorem dX1_bringFrom_62 : decode cX1_bringFrom 62 = .ok (.aload_n 0, 1) := dk_42 (dk_at dksX1_bringFrom_2 17 rfl rfl)
theorem dX1_bringFrom_63 : decode cX1_bringFrom 63 = .ok (.getfield 98, 3) := dk_180 0 98 (dk_at dksX1_bringFrom_2 18 rfl rfl)
theorem dX1_bringFrom_66 : decode cX1_bringFrom 66 = .ok (.getfield 126, 3) := dk_180 0 126 (dk_at dksX1_bringFrom_2 21 rfl rfl)
theorem dX1_bringFrom_69 : decode cX1_bringFrom 69 = .ok (.if_icmp .ge 44, 3) := dk_162 0 44 (dk_at dksX1_bringFrom_3 0 rfl rfl)
theorem dX1_bringFrom_72 : decode cX1_bringFrom 72 = .ok (.aload_n 0, 1) := dk_42 (dk_at dksX1_bringFrom_3 3 rfl rfl)
theorem dX1_bringFrom_73 : decode cX1_bringFrom 73 = .ok (.getfield 46, 3) := dk_180 0 46 (dk_at dksX1_bringFrom_3 4 rfl rfl)
theorem dX1_bringFrom_76 : decode cX1_bringFrom 76 = .ok (.iload 5, 2) := dk_21 5 (dk_at dksX1_bringFrom_3 7 rfl rfl)
theorem dX1_bringFrom_78 : decode cX1_bringFrom 78 = .ok (.aload_n 0, 1) := dk_42 (dk_at dksX1_bringFrom_3 9 rfl rfl)
theorem dX1_bringFrom_79 : decode cX1_bringFrom 79 = .ok (.getfield 98, 3) := dk_180 0 98 (dk_at dksX1_bringFrom_3 10 rfl rfl)
theorem dX1_bringFrom_82 : decode cX1_bringFrom 82 = .ok (.getfield 126, 3) := dk_180 0 126 (dk_at dksX1_bringFrom_3 13 rfl rfl)
theorem dX1_bringFrom_85 : decode cX1_bringFrom 85 = .ok (.invokevirtual 254, 3) := dk_182 0 254 (dk_at dksX1_bringFrom_3 16 rfl rfl)
theorem dX1_bringFrom_88 : decode cX1_bringFrom 88 = .ok (.istore 6, 2) := dk_54 6 (dk_at dksX1_bringFrom_3 19 rfl rfl)
theorem dX1_bringFrom_90 : decode cX1_bringFrom 90 = .ok (.iload 6, 2) := dk_21 6 (dk_at dksX1_bringFrom_3 21 rfl rfl)
theorem dX1_bringFrom_92 : decode cX1_bringFrom 92 = .ok (.iload 4, 2) := dk_21 4 (dk_at dksX1_bringFrom_4 0 rfl rfl)
theorem dX1_bringFrom_94 : decode cX1_bringFrom 94 = .ok (.if_icmp .lt 6, 3) := dk_161 0 6 (dk_at dksX1_bringFrom_4 2 rfl rfl)
theorem dX1_bringFrom_97 : decode cX1_bringFrom 97 = .ok (.goto 10, 3) := dk_167 0 10 (dk_at dksX1_bringFrom_4 5 rfl rfl)
theorem dX1_bringFrom_100 : decode cX1_bringFrom 100 = .ok (.iload 5, 2) := dk_21 5 (dk_at dksX1_bringFrom_4 8 rfl rfl)
theorem dX1_bringFrom_102 : decode cX1_bringFrom 102 = .ok (.istore_n 3, 1) := dk_62 (dk_at dksX1_bringFrom_4 10 rfl rfl)
theorem dX1_bringFrom_103 : decode cX1_bringFrom 103 = .ok (.iload 6, 2) := dk_21 6 (dk_at dksX1_bringFrom_4 11 rfl rfl)
theorem dX1_bringFrom_105 : decode cX1_bringFrom 105 = .ok (.istore 4, 2) := dk_54 4 (dk_at dksX1_bringFrom_4 13 rfl rfl)
theorem dX1_bringFrom_107 : decode cX1_bringFrom 107 = .ok (.iinc 5 1, 3) := dk_132 5 1 (dk_at dksX1_bringFrom_4 15 rfl rfl)
theorem dX1_bringFrom_110 : decode cX1_bringFrom 110 = .ok (.goto (-50), 3) := dk_167 255 206 (dk_at dksX1_bringFrom_4 18 rfl rfl)
theorem dX1_bringFrom_113 : decode cX1_bringFrom 113 = .ok (.iload_n 3, 1) := dk_29 (dk_at dksX1_bringFrom_4 21 rfl rfl)
theorem dX1_bringFrom_114 : decode cX1_bringFrom 114 = .ok (.ireturn, 1) := dk_172 (dk_at dksX1_bringFrom_4 22 rfl rfl)
abbrev cX1_steps : ByteArray := prog_1_method_54_code
def yX1_steps : MethodName := ⟨RX1, "steps", "(II)I"⟩
def dkwX1_steps_1 : List UInt8 := [27, 28, 182, 1, 2, 167, 0, 8, 42, 4, 182, 0, 87, 172]
abbrev dktX1_steps_1 : List UInt8 := dkwX1_steps_1 ++ []
def dkwX1_steps_0 : List UInt8 := [42, 182, 0, 73, 42, 27, 182, 0, 172, 153, 0, 23, 42, 28, 182, 0, 172, 153, 0, 15, 42, 180, 0, 98]
abbrev dktX1_steps_0 : List UInt8 := dkwX1_steps_0 ++ dktX1_steps_1
theorem dksX1_steps_0 : cX1_steps.data.toList.drop 0 = dktX1_steps_0 := by decide +kernel
theorem dksX1_steps_1 : cX1_steps.data.toList.drop 24 = dktX1_steps_1 := dk_seg dksX1_steps_0 24 rfl rfl
theorem dX1_steps_0 : decode cX1_steps 0 = .ok (.aload_n 0, 1) := dk_42 (dk_at dksX1_steps_0 0 rfl rfl)
theorem dX1_steps_1 : decode cX1_steps 1 = .ok (.invokevirtual 73, 3) := dk_182 0 73 (dk_at dksX1_steps_0 1 rfl rfl)
theorem dX1_steps_4 : decode cX1_steps 4 = .ok (.aload_n 0, 1) := dk_42 (dk_at dksX1_steps_0 4 rfl rfl)
theorem dX1_steps_5 : decode cX1_steps 5 = .ok (.iload_n 1, 1) := dk_27 (dk_at dksX1_steps_0 5 rfl rfl)
theorem dX1_steps_6 : decode cX1_steps 6 = .ok (.invokevirtual 172, 3) := dk_182 0 172 (dk_at dksX1_steps_0 6 rfl rfl)
theorem dX1_steps_9 : decode cX1_steps 9 = .ok (.ifCond .eq 23, 3) := dk_153 0 23 (dk_at dksX1_steps_0 9 rfl rfl)
theorem dX1_steps_12 : decode cX1_steps 12 = .ok (.aload_n 0, 1) := dk_42 (dk_at dksX1_steps_0 12 rfl rfl)
theorem dX1_steps_13 : decode cX1_steps 13 = .ok (.iload_n 2, 1) := dk_28 (dk_at dksX1_steps_0 13 rfl rfl)
theorem dX1_steps_14 : decode cX1_steps 14 = .ok (.invokevirtual 172, 3) := dk_182 0 172 (dk_at dksX1_steps_0 14 rfl rfl)
theorem dX1_steps_17 : decode cX1_steps 17 = .ok (.ifCond .eq 15, 3) := dk_153 0 15 (dk_at dksX1_steps_0 17 rfl rfl)
theorem dX1_steps_20 : decode cX1_steps 20 = .ok (.aload_n 0, 1) := dk_42 (dk_at dksX1_steps_0 20 rfl rfl)
theorem dX1_steps_21 : decode cX1_steps 21 = .ok (.getfield 98, 3) := dk_180 0 98 (dk_at dksX1_steps_0 21 rfl rfl)
theorem dX1_steps_24 : decode cX1_steps 24 = .ok (.iload_n 1, 1) := dk_27 (dk_at dksX1_steps_1 0 rfl rfl)
theorem dX1_steps_25 : decode cX1_steps 25 = .ok (.iload_n 2, 1) := dk_28 (dk_at dksX1_steps_1 1 rfl rfl)
theorem dX1_steps_26 : decode cX1_steps 26 = .ok (.invokevirtual 258, 3) := dk_182 1 2 (dk_at dksX1_steps_1 2 rfl rfl)
theorem dX1_steps_29 : decode cX1_steps 29 = .ok (.goto 8, 3) := dk_167 0 8 (dk_at dksX1_steps_1 5 rfl rfl)
theorem dX1_steps_32 : decode cX1_steps 32 = .ok (.aload_n 0, 1) := dk_42 (dk_at dksX1_steps_1 8 rfl rfl)
theorem dX1_steps_33 : decode cX1_steps 33 = .ok (.iconst 1, 1) := dk_4 (dk_at dksX1_steps_1 9 rfl rfl)
theorem dX1_steps_34 : decode cX1_steps 34 = .ok (.invokevirtual 87, 3) := dk_182 0 87 (dk_at dksX1_steps_1 10 rfl rfl)
theorem dX1_steps_37 : decode cX1_steps 37 = .ok (.ireturn, 1) := dk_172 (dk_at dksX1_steps_1 13 rfl rfl)
abbrev cX1_ring : ByteArray := prog_1_method_56_code
def yX1_ring : MethodName := ⟨RX1, "ring", "(II)I"⟩
def dkwX1_ring_1 : List UInt8 := [167, 0, 9, 42, 27, 28, 182, 1, 5, 172]
abbrev dktX1_ring_1 : List UInt8 := dkwX1_ring_1 ++ []
def dkwX1_ring_0 : List UInt8 := [42, 182, 0, 73, 42, 42, 27, 182, 0, 133, 28, 182, 0, 178, 62, 29, 153, 0, 11, 42, 29, 182, 0, 87]
abbrev dktX1_ring_0 : List UInt8 := dkwX1_ring_0 ++ dktX1_ring_1
theorem dksX1_ring_0 : cX1_ring.data.toList.drop 0 = dktX1_ring_0 := by decide +kernel
theorem dksX1_ring_1 : cX1_ring.data.toList.drop 24 = dktX1_ring_1 := dk_seg dksX1_ring_0 24 rfl rfl
theorem dX1_ring_0 : decode cX1_ring 0 = .ok (.aload_n 0, 1) := dk_42 (dk_at dksX1_ring_0 0 rfl rfl)
theorem dX1_ring_1 : decode cX1_ring 1 = .ok (.invokevirtual 73, 3) := dk_182 0 73 (dk_at dksX1_ring_0 1 rfl rfl)
theorem dX1_ring_4 : decode cX1_ring 4 = .ok (.aload_n 0, 1) := dk_42 (dk_at dksX1_ring_0 4 rfl rfl)
theorem dX1_ring_5 : decode cX1_ring 5 = .ok (.aload_n 0, 1) := dk_42 (dk_at dksX1_ring_0 5 rfl rfl)
theorem dX1_ring_6 : decode cX1_ring 6 = .ok (.iload_n 1, 1) := dk_27 (dk_at dksX1_ring_0 6 rfl rfl)
theorem dX1_ring_7 : decode cX1_ring 7 = .ok (.invokevirtual 133, 3) := dk_182 0 133 (dk_at dksX1_ring_0 7 rfl rfl)
theorem dX1_ring_10 : decode cX1_ring 10 = .ok (.iload_n 2, 1) := dk_28 (dk_at dksX1_ring_0 10 rfl rfl)
theorem dX1_ring_11 : decode cX1_ring 11 = .ok (.invokevirtual 178, 3) := dk_182 0 178 (dk_at dksX1_ring_0 11 rfl rfl)
theorem dX1_ring_14 : decode cX1_ring 14 = .ok (.istore_n 3, 1) := dk_62 (dk_at dksX1_ring_0 14 rfl rfl)
theorem dX1_ring_15 : decode cX1_ring 15 = .ok (.iload_n 3, 1) := dk_29 (dk_at dksX1_ring_0 15 rfl rfl)
theorem dX1_ring_16 : decode cX1_ring 16 = .ok (.ifCond .eq 11, 3) := dk_153 0 11 (dk_at dksX1_ring_0 16 rfl rfl)
theorem dX1_ring_19 : decode cX1_ring 19 = .ok (.aload_n 0, 1) := dk_42 (dk_at dksX1_ring_0 19 rfl rfl)
theorem dX1_ring_20 : decode cX1_ring 20 = .ok (.iload_n 3, 1) := dk_29 (dk_at dksX1_ring_0 20 rfl rfl)
theorem dX1_ring_21 : decode cX1_ring 21 = .ok (.invokevirtual 87, 3) := dk_182 0 87 (dk_at dksX1_ring_0 21 rfl rfl)
theorem dX1_ring_24 : decode cX1_ring 24 = .ok (.goto 9, 3) := dk_167 0 9 (dk_at dksX1_ring_1 0 rfl rfl)
theorem dX1_ring_27 : decode cX1_ring 27 = .ok (.aload_n 0, 1) := dk_42 (dk_at dksX1_ring_1 3 rfl rfl)
theorem dX1_ring_28 : decode cX1_ring 28 = .ok (.iload_n 1, 1) := dk_27 (dk_at dksX1_ring_1 4 rfl rfl)
theorem dX1_ring_29 : decode cX1_ring 29 = .ok (.iload_n 2, 1) := dk_28 (dk_at dksX1_ring_1 5 rfl rfl)
theorem dX1_ring_30 : decode cX1_ring 30 = .ok (.invokevirtual 261, 3) := dk_182 1 5 (dk_at dksX1_ring_1 6 rfl rfl)
theorem dX1_ring_33 : decode cX1_ring 33 = .ok (.ireturn, 1) := dk_172 (dk_at dksX1_ring_1 9 rfl rfl)
abbrev cX1_ringOf : ByteArray := prog_1_method_55_code
def yX1_ringOf : MethodName := ⟨RX1, "ringOf", "(II)I"⟩
def dkwX1_ringOf_4 : List UInt8 := [160, 0, 8, 21, 4, 4, 96, 172, 132, 4, 1, 167, 255, 158, 16, 254, 172]
abbrev dktX1_ringOf_4 : List UInt8 := dkwX1_ringOf_4 ++ []
def dkwX1_ringOf_3 : List UInt8 := [180, 0, 123, 160, 0, 6, 16, 254, 172, 42, 180, 0, 33, 21, 5, 28, 3, 182, 0, 189, 62, 29, 27]
abbrev dktX1_ringOf_3 : List UInt8 := dkwX1_ringOf_3 ++ dktX1_ringOf_4
def dkwX1_ringOf_2 : List UInt8 := [21, 5, 50, 180, 0, 166, 29, 159, 0, 9, 132, 5, 1, 167, 255, 224, 21, 5, 42, 180, 0, 98]
abbrev dktX1_ringOf_2 : List UInt8 := dkwX1_ringOf_2 ++ dktX1_ringOf_3
def dkwX1_ringOf_1 : List UInt8 := [79, 3, 54, 5, 21, 5, 42, 180, 0, 98, 180, 0, 123, 162, 0, 26, 42, 180, 0, 98, 180, 0, 153]
abbrev dktX1_ringOf_1 : List UInt8 := dkwX1_ringOf_1 ++ dktX1_ringOf_2
def dkwX1_ringOf_0 : List UInt8 := [27, 62, 3, 54, 4, 21, 4, 42, 180, 0, 98, 180, 0, 118, 162, 0, 92, 42, 180, 0, 64, 21, 4, 29]
abbrev dktX1_ringOf_0 : List UInt8 := dkwX1_ringOf_0 ++ dktX1_ringOf_1
theorem dksX1_ringOf_0 : cX1_ringOf.data.toList.drop 0 = dktX1_ringOf_0 := by decide +kernel
theorem dksX1_ringOf_1 : cX1_ringOf.data.toList.drop 24 = dktX1_ringOf_1 := dk_seg dksX1_ringOf_0 24 rfl rfl
theorem dksX1_ringOf_2 : cX1_ringOf.data.toList.drop 47 = dktX1_ringOf_2 := dk_seg dksX1_ringOf_1 23 rfl rfl
theorem dksX1_ringOf_3 : cX1_ringOf.data.toList.drop 69 = dktX1_ringOf_3 := dk_seg dksX1_ringOf_2 22 rfl rfl
theorem dksX1_ringOf_4 : cX1_ringOf.data.toList.drop 92 = dktX1_ringOf_4 := dk_seg dksX1_ringOf_3 23 rfl rfl
theorem dX1_ringOf_0 : decode cX1_ringOf 0 = .ok (.iload_n 1, 1) := dk_27 (dk_at dksX1_ringOf_0 0 rfl rfl)
theorem dX1_ringOf_1 : decode cX1_ringOf 1 = .ok (.istore_n 3, 1) := dk_62 (dk_at dksX1_ringOf_0 1 rfl rfl)
theorem dX1_ringOf_2 : decode cX1_ringOf 2 = .ok (.iconst 0, 1) := dk_3 (dk_at dksX1_ringOf_0 2 rfl rfl)
theorem dX1_ringOf_3 : decode cX1_ringOf 3 = .ok (.istore 4, 2) := dk_54 4 (dk_at dksX1_ringOf_0 3 rfl rfl)
theorem dX1_ringOf_5 : decode cX1_ringOf 5 = .ok (.iload 4, 2) := dk_21 4 (dk_at dksX1_ringOf_0 5 rfl rfl)
theorem dX1_ringOf_7 : decode cX1_ringOf 7 = .ok (.aload_n 0, 1) := dk_42 (dk_at dksX1_ringOf_0 7 rfl rfl)
theorem dX1_ringOf_8 : decode cX1_ringOf 8 = .ok (.getfield 98, 3) := dk_180 0 98 (dk_at dksX1_ringOf_0 8 rfl rfl)
theorem dX1_ringOf_11 : decode cX1_ringOf 11 = .ok (.getfield 118, 3) := dk_180 0 118 (dk_at dksX1_ringOf_0 11 rfl rfl)
theorem dX1_ringOf_14 : decode cX1_ringOf 14 = .ok (.if_icmp .ge 92, 3) := dk_162 0 92 (dk_at dksX1_ringOf_0 14 rfl rfl)
theorem dX1_ringOf_17 : decode cX1_ringOf 17 = .ok (.aload_n 0, 1) := dk_42 (dk_at dksX1_ringOf_0 17 rfl rfl)
theorem dX1_ringOf_18 : decode cX1_ringOf 18 = .ok (.getfield 64, 3) := dk_180 0 64 (dk_at dksX1_ringOf_0 18 rfl rfl)
theorem dX1_ringOf_21 : decode cX1_ringOf 21 = .ok (.iload 4, 2) := dk_21 4 (dk_at dksX1_ringOf_0 21 rfl rfl)
theorem dX1_ringOf_23 : decode cX1_ringOf 23 = .ok (.iload_n 3, 1) := dk_29 (dk_at dksX1_ringOf_0 23 rfl rfl)
theorem dX1_ringOf_24 : decode cX1_ringOf 24 = .ok (.iastore, 1) := dk_79 (dk_at dksX1_ringOf_1 0 rfl rfl)
theorem dX1_ringOf_25 : decode cX1_ringOf 25 = .ok (.iconst 0, 1) := dk_3 (dk_at dksX1_ringOf_1 1 rfl rfl)
theorem dX1_ringOf_26 : decode cX1_ringOf 26 = .ok (.istore 5, 2) := dk_54 5 (dk_at dksX1_ringOf_1 2 rfl rfl)
theorem dX1_ringOf_28 : decode cX1_ringOf 28 = .ok (.iload 5, 2) := dk_21 5 (dk_at dksX1_ringOf_1 4 rfl rfl)
theorem dX1_ringOf_30 : decode cX1_ringOf 30 = .ok (.aload_n 0, 1) := dk_42 (dk_at dksX1_ringOf_1 6 rfl rfl)
theorem dX1_ringOf_31 : decode cX1_ringOf 31 = .ok (.getfield 98, 3) := dk_180 0 98 (dk_at dksX1_ringOf_1 7 rfl rfl)
theorem dX1_ringOf_34 : decode cX1_ringOf 34 = .ok (.getfield 123, 3) := dk_180 0 123 (dk_at dksX1_ringOf_1 10 rfl rfl)
theorem dX1_ringOf_37 : decode cX1_ringOf 37 = .ok (.if_icmp .ge 26, 3) := dk_162 0 26 (dk_at dksX1_ringOf_1 13 rfl rfl)
theorem dX1_ringOf_40 : decode cX1_ringOf 40 = .ok (.aload_n 0, 1) := dk_42 (dk_at dksX1_ringOf_1 16 rfl rfl)
theorem dX1_ringOf_41 : decode cX1_ringOf 41 = .ok (.getfield 98, 3) := dk_180 0 98 (dk_at dksX1_ringOf_1 17 rfl rfl)
theorem dX1_ringOf_44 : decode cX1_ringOf 44 = .ok (.getfield 153, 3) := dk_180 0 153 (dk_at dksX1_ringOf_1 20 rfl rfl)
theorem dX1_ringOf_47 : decode cX1_ringOf 47 = .ok (.iload 5, 2) := dk_21 5 (dk_at dksX1_ringOf_2 0 rfl rfl)
theorem dX1_ringOf_49 : decode cX1_ringOf 49 = .ok (.aaload, 1) := dk_50 (dk_at dksX1_ringOf_2 2 rfl rfl)
theorem dX1_ringOf_50 : decode cX1_ringOf 50 = .ok (.getfield 166, 3) := dk_180 0 166 (dk_at dksX1_ringOf_2 3 rfl rfl)
theorem dX1_ringOf_53 : decode cX1_ringOf 53 = .ok (.iload_n 3, 1) := dk_29 (dk_at dksX1_ringOf_2 6 rfl rfl)
theorem dX1_ringOf_54 : decode cX1_ringOf 54 = .ok (.if_icmp .eq 9, 3) := dk_159 0 9 (dk_at dksX1_ringOf_2 7 rfl rfl)
theorem dX1_ringOf_57 : decode cX1_ringOf 57 = .ok (.iinc 5 1, 3) := dk_132 5 1 (dk_at dksX1_ringOf_2 10 rfl rfl)
theorem dX1_ringOf_60 : decode cX1_ringOf 60 = .ok (.goto (-32), 3) := dk_167 255 224 (dk_at dksX1_ringOf_2 13 rfl rfl)
theorem dX1_ringOf_63 : decode cX1_ringOf 63 = .ok (.iload 5, 2) := dk_21 5 (dk_at dksX1_ringOf_2 16 rfl rfl)
theorem dX1_ringOf_65 : decode cX1_ringOf 65 = .ok (.aload_n 0, 1) := dk_42 (dk_at dksX1_ringOf_2 18 rfl rfl)
theorem dX1_ringOf_66 : decode cX1_ringOf 66 = .ok (.getfield 98, 3) := dk_180 0 98 (dk_at dksX1_ringOf_2 19 rfl rfl)
theorem dX1_ringOf_69 : decode cX1_ringOf 69 = .ok (.getfield 123, 3) := dk_180 0 123 (dk_at dksX1_ringOf_3 0 rfl rfl)
theorem dX1_ringOf_72 : decode cX1_ringOf 72 = .ok (.if_icmp .ne 6, 3) := dk_160 0 6 (dk_at dksX1_ringOf_3 3 rfl rfl)
theorem dX1_ringOf_75 : decode cX1_ringOf 75 = .ok (.bipush (-2), 2) := dk_16 254 (dk_at dksX1_ringOf_3 6 rfl rfl)
theorem dX1_ringOf_77 : decode cX1_ringOf 77 = .ok (.ireturn, 1) := dk_172 (dk_at dksX1_ringOf_3 8 rfl rfl)
theorem dX1_ringOf_78 : decode cX1_ringOf 78 = .ok (.aload_n 0, 1) := dk_42 (dk_at dksX1_ringOf_3 9 rfl rfl)
theorem dX1_ringOf_79 : decode cX1_ringOf 79 = .ok (.getfield 33, 3) := dk_180 0 33 (dk_at dksX1_ringOf_3 10 rfl rfl)
theorem dX1_ringOf_82 : decode cX1_ringOf 82 = .ok (.iload 5, 2) := dk_21 5 (dk_at dksX1_ringOf_3 13 rfl rfl)
theorem dX1_ringOf_84 : decode cX1_ringOf 84 = .ok (.iload_n 2, 1) := dk_28 (dk_at dksX1_ringOf_3 15 rfl rfl)
theorem dX1_ringOf_85 : decode cX1_ringOf 85 = .ok (.iconst 0, 1) := dk_3 (dk_at dksX1_ringOf_3 16 rfl rfl)
theorem dX1_ringOf_86 : decode cX1_ringOf 86 = .ok (.invokevirtual 189, 3) := dk_182 0 189 (dk_at dksX1_ringOf_3 17 rfl rfl)
theorem dX1_ringOf_89 : decode cX1_ringOf 89 = .ok (.istore_n 3, 1) := dk_62 (dk_at dksX1_ringOf_3 20 rfl rfl)
theorem dX1_ringOf_90 : decode cX1_ringOf 90 = .ok (.iload_n 3, 1) := dk_29 (dk_at dksX1_ringOf_3 21 rfl rfl)
theorem dX1_ringOf_91 : decode cX1_ringOf 91 = .ok (.iload_n 1, 1) := dk_27 (dk_at dksX1_ringOf_3 22 rfl rfl)
theorem dX1_ringOf_92 : decode cX1_ringOf 92 = .ok (.if_icmp .ne 8, 3) := dk_160 0 8 (dk_at dksX1_ringOf_4 0 rfl rfl)
theorem dX1_ringOf_95 : decode cX1_ringOf 95 = .ok (.iload 4, 2) := dk_21 4 (dk_at dksX1_ringOf_4 3 rfl rfl)
theorem dX1_ringOf_97 : decode cX1_ringOf 97 = .ok (.iconst 1, 1) := dk_4 (dk_at dksX1_ringOf_4 5 rfl rfl)
theorem dX1_ringOf_98 : decode cX1_ringOf 98 = .ok (.iadd, 1) := dk_96 (dk_at dksX1_ringOf_4 6 rfl rfl)
theorem dX1_ringOf_99 : decode cX1_ringOf 99 = .ok (.ireturn, 1) := dk_172 (dk_at dksX1_ringOf_4 7 rfl rfl)
theorem dX1_ringOf_100 : decode cX1_ringOf 100 = .ok (.iinc 4 1, 3) := dk_132 4 1 (dk_at dksX1_ringOf_4 8 rfl rfl)
theorem dX1_ringOf_103 : decode cX1_ringOf 103 = .ok (.goto (-98), 3) := dk_167 255 158 (dk_at dksX1_ringOf_4 11 rfl rfl)
theorem dX1_ringOf_106 : decode cX1_ringOf 106 = .ok (.bipush (-2), 2) := dk_16 254 (dk_at dksX1_ringOf_4 14 rfl rfl)
theorem dX1_ringOf_108 : decode cX1_ringOf 108 = .ok (.ireturn, 1) := dk_172 (dk_at dksX1_ringOf_4 16 rfl rfl)
abbrev cX1_ringAt : ByteArray := prog_1_method_57_code
def yX1_ringAt : MethodName := ⟨RX1, "ringAt", "(III)I"⟩
def dkwX1_ringAt_2 : List UInt8 := [29, 46, 167, 0, 8, 42, 4, 182, 0, 87, 172]
abbrev dktX1_ringAt_2 : List UInt8 := dkwX1_ringAt_2 ++ []
def dkwX1_ringAt_1 : List UInt8 := [182, 0, 87, 172, 29, 3, 42, 27, 28, 182, 1, 5, 4, 100, 184, 0, 83, 153, 0, 12, 42, 180, 0, 64]
abbrev dktX1_ringAt_1 : List UInt8 := dkwX1_ringAt_1 ++ dktX1_ringAt_2
def dkwX1_ringAt_0 : List UInt8 := [42, 182, 0, 73, 42, 42, 27, 182, 0, 133, 28, 182, 0, 178, 54, 4, 21, 4, 153, 0, 10, 42, 21, 4]
abbrev dktX1_ringAt_0 : List UInt8 := dkwX1_ringAt_0 ++ dktX1_ringAt_1
theorem dksX1_ringAt_0 : cX1_ringAt.data.toList.drop 0 = dktX1_ringAt_0 := by decide +kernel
theorem dksX1_ringAt_1 : cX1_ringAt.data.toList.drop 24 = dktX1_ringAt_1 := dk_seg dksX1_ringAt_0 24 rfl rfl
theorem dksX1_ringAt_2 : cX1_ringAt.data.toList.drop 48 = dktX1_ringAt_2 := dk_seg dksX1_ringAt_1 24 rfl rfl
theorem dX1_ringAt_0 : decode cX1_ringAt 0 = .ok (.aload_n 0, 1) := dk_42 (dk_at dksX1_ringAt_0 0 rfl rfl)
theorem dX1_ringAt_1 : decode cX1_ringAt 1 = .ok (.invokevirtual 73, 3) := dk_182 0 73 (dk_at dksX1_ringAt_0 1 rfl rfl)
theorem dX1_ringAt_4 : decode cX1_ringAt 4 = .ok (.aload_n 0, 1) := dk_42 (dk_at dksX1_ringAt_0 4 rfl rfl)
theorem dX1_ringAt_5 : decode cX1_ringAt 5 = .ok (.aload_n 0, 1) := dk_42 (dk_at dksX1_ringAt_0 5 rfl rfl)
theorem dX1_ringAt_6 : decode cX1_ringAt 6 = .ok (.iload_n 1, 1) := dk_27 (dk_at dksX1_ringAt_0 6 rfl rfl)
theorem dX1_ringAt_7 : decode cX1_ringAt 7 = .ok (.invokevirtual 133, 3) := dk_182 0 133 (dk_at dksX1_ringAt_0 7 rfl rfl)
theorem dX1_ringAt_10 : decode cX1_ringAt 10 = .ok (.iload_n 2, 1) := dk_28 (dk_at dksX1_ringAt_0 10 rfl rfl)
theorem dX1_ringAt_11 : decode cX1_ringAt 11 = .ok (.invokevirtual 178, 3) := dk_182 0 178 (dk_at dksX1_ringAt_0 11 rfl rfl)
theorem dX1_ringAt_14 : decode cX1_ringAt 14 = .ok (.istore 4, 2) := dk_54 4 (dk_at dksX1_ringAt_0 14 rfl rfl)
theorem dX1_ringAt_16 : decode cX1_ringAt 16 = .ok (.iload 4, 2) := dk_21 4 (dk_at dksX1_ringAt_0 16 rfl rfl)
theorem dX1_ringAt_18 : decode cX1_ringAt 18 = .ok (.ifCond .eq 10, 3) := dk_153 0 10 (dk_at dksX1_ringAt_0 18 rfl rfl)
theorem dX1_ringAt_21 : decode cX1_ringAt 21 = .ok (.aload_n 0, 1) := dk_42 (dk_at dksX1_ringAt_0 21 rfl rfl)
theorem dX1_ringAt_22 : decode cX1_ringAt 22 = .ok (.iload 4, 2) := dk_21 4 (dk_at dksX1_ringAt_0 22 rfl rfl)
theorem dX1_ringAt_24 : decode cX1_ringAt 24 = .ok (.invokevirtual 87, 3) := dk_182 0 87 (dk_at dksX1_ringAt_1 0 rfl rfl)
theorem dX1_ringAt_27 : decode cX1_ringAt 27 = .ok (.ireturn, 1) := dk_172 (dk_at dksX1_ringAt_1 3 rfl rfl)
theorem dX1_ringAt_28 : decode cX1_ringAt 28 = .ok (.iload_n 3, 1) := dk_29 (dk_at dksX1_ringAt_1 4 rfl rfl)
theorem dX1_ringAt_29 : decode cX1_ringAt 29 = .ok (.iconst 0, 1) := dk_3 (dk_at dksX1_ringAt_1 5 rfl rfl)
theorem dX1_ringAt_30 : decode cX1_ringAt 30 = .ok (.aload_n 0, 1) := dk_42 (dk_at dksX1_ringAt_1 6 rfl rfl)
theorem dX1_ringAt_31 : decode cX1_ringAt 31 = .ok (.iload_n 1, 1) := dk_27 (dk_at dksX1_ringAt_1 7 rfl rfl)
theorem dX1_ringAt_32 : decode cX1_ringAt 32 = .ok (.iload_n 2, 1) := dk_28 (dk_at dksX1_ringAt_1 8 rfl rfl)
theorem dX1_ringAt_33 : decode cX1_ringAt 33 = .ok (.invokevirtual 261, 3) := dk_182 1 5 (dk_at dksX1_ringAt_1 9 rfl rfl)
theorem dX1_ringAt_36 : decode cX1_ringAt 36 = .ok (.iconst 1, 1) := dk_4 (dk_at dksX1_ringAt_1 12 rfl rfl)
theorem dX1_ringAt_37 : decode cX1_ringAt 37 = .ok (.isub, 1) := dk_100 (dk_at dksX1_ringAt_1 13 rfl rfl)
theorem dX1_ringAt_38 : decode cX1_ringAt 38 = .ok (.invokestatic 83, 3) := dk_184 0 83 (dk_at dksX1_ringAt_1 14 rfl rfl)
theorem dX1_ringAt_41 : decode cX1_ringAt 41 = .ok (.ifCond .eq 12, 3) := dk_153 0 12 (dk_at dksX1_ringAt_1 17 rfl rfl)
theorem dX1_ringAt_44 : decode cX1_ringAt 44 = .ok (.aload_n 0, 1) := dk_42 (dk_at dksX1_ringAt_1 20 rfl rfl)
theorem dX1_ringAt_45 : decode cX1_ringAt 45 = .ok (.getfield 64, 3) := dk_180 0 64 (dk_at dksX1_ringAt_1 21 rfl rfl)
theorem dX1_ringAt_48 : decode cX1_ringAt 48 = .ok (.iload_n 3, 1) := dk_29 (dk_at dksX1_ringAt_2 0 rfl rfl)
theorem dX1_ringAt_49 : decode cX1_ringAt 49 = .ok (.iaload, 1) := dk_46 (dk_at dksX1_ringAt_2 1 rfl rfl)
theorem dX1_ringAt_50 : decode cX1_ringAt 50 = .ok (.goto 8, 3) := dk_167 0 8 (dk_at dksX1_ringAt_2 2 rfl rfl)
theorem dX1_ringAt_53 : decode cX1_ringAt 53 = .ok (.aload_n 0, 1) := dk_42 (dk_at dksX1_ringAt_2 5 rfl rfl)
theorem dX1_ringAt_54 : decode cX1_ringAt 54 = .ok (.iconst 1, 1) := dk_4 (dk_at dksX1_ringAt_2 6 rfl rfl)
theorem dX1_ringAt_55 : decode cX1_ringAt 55 = .ok (.invokevirtual 87, 3) := dk_182 0 87 (dk_at dksX1_ringAt_2 7 rfl rfl)
theorem dX1_ringAt_58 : decode cX1_ringAt 58 = .ok (.ireturn, 1) := dk_172 (dk_at dksX1_ringAt_2 10 rfl rfl)
abbrev cX1_fits : ByteArray := prog_1_method_60_code
def yX1_fits : MethodName := ⟨RX1, "fits", "()I"⟩
def dkwX1_fits_1 : List UInt8 := [180, 1, 29, 172]
abbrev dktX1_fits_1 : List UInt8 := dkwX1_fits_1 ++ []
def dkwX1_fits_0 : List UInt8 := [42, 182, 0, 73, 42, 180, 0, 98, 199, 0, 9, 42, 4, 182, 0, 87, 172, 42, 2, 182, 1, 44, 42]
abbrev dktX1_fits_0 : List UInt8 := dkwX1_fits_0 ++ dktX1_fits_1
theorem dksX1_fits_0 : cX1_fits.data.toList.drop 0 = dktX1_fits_0 := by decide +kernel
theorem dksX1_fits_1 : cX1_fits.data.toList.drop 23 = dktX1_fits_1 := dk_seg dksX1_fits_0 23 rfl rfl
theorem dX1_fits_0 : decode cX1_fits 0 = .ok (.aload_n 0, 1) := dk_42 (dk_at dksX1_fits_0 0 rfl rfl)
theorem dX1_fits_1 : decode cX1_fits 1 = .ok (.invokevirtual 73, 3) := dk_182 0 73 (dk_at dksX1_fits_0 1 rfl rfl)
theorem dX1_fits_4 : decode cX1_fits 4 = .ok (.aload_n 0, 1) := dk_42 (dk_at dksX1_fits_0 4 rfl rfl)
theorem dX1_fits_5 : decode cX1_fits 5 = .ok (.getfield 98, 3) := dk_180 0 98 (dk_at dksX1_fits_0 5 rfl rfl)
theorem dX1_fits_8 : decode cX1_fits 8 = .ok (.ifnonnull 9, 3) := dk_199 0 9 (dk_at dksX1_fits_0 8 rfl rfl)
theorem dX1_fits_11 : decode cX1_fits 11 = .ok (.aload_n 0, 1) := dk_42 (dk_at dksX1_fits_0 11 rfl rfl)
theorem dX1_fits_12 : decode cX1_fits 12 = .ok (.iconst 1, 1) := dk_4 (dk_at dksX1_fits_0 12 rfl rfl)
theorem dX1_fits_13 : decode cX1_fits 13 = .ok (.invokevirtual 87, 3) := dk_182 0 87 (dk_at dksX1_fits_0 13 rfl rfl)
theorem dX1_fits_16 : decode cX1_fits 16 = .ok (.ireturn, 1) := dk_172 (dk_at dksX1_fits_0 16 rfl rfl)
theorem dX1_fits_17 : decode cX1_fits 17 = .ok (.aload_n 0, 1) := dk_42 (dk_at dksX1_fits_0 17 rfl rfl)
theorem dX1_fits_18 : decode cX1_fits 18 = .ok (.iconst (-1), 1) := dk_2 (dk_at dksX1_fits_0 18 rfl rfl)
theorem dX1_fits_19 : decode cX1_fits 19 = .ok (.invokevirtual 300, 3) := dk_182 1 44 (dk_at dksX1_fits_0 19 rfl rfl)
theorem dX1_fits_22 : decode cX1_fits 22 = .ok (.aload_n 0, 1) := dk_42 (dk_at dksX1_fits_0 22 rfl rfl)
theorem dX1_fits_23 : decode cX1_fits 23 = .ok (.getfield 285, 3) := dk_180 1 29 (dk_at dksX1_fits_1 0 rfl rfl)
theorem dX1_fits_26 : decode cX1_fits 26 = .ok (.ireturn, 1) := dk_172 (dk_at dksX1_fits_1 3 rfl rfl)
abbrev cX1_fitting : ByteArray := prog_1_method_59_code
def yX1_fitting : MethodName := ⟨RX1, "fitting", "(I)V"⟩
def dkwX1_fitting_7 : List UInt8 := [154, 0, 8, 42, 3, 181, 1, 38, 177]
abbrev dktX1_fitting_7 : List UInt8 := dkwX1_fitting_7 ++ []
def dkwX1_fitting_6 : List UInt8 := [28, 29, 122, 4, 126, 96, 79, 132, 3, 1, 167, 255, 228, 132, 2, 1, 167, 255, 151, 42, 180, 1, 29]
abbrev dktX1_fitting_6 : List UInt8 := dkwX1_fitting_6 ++ dktX1_fitting_7
def dkwX1_fitting_5 : List UInt8 := [126, 181, 1, 38, 3, 62, 29, 42, 180, 0, 98, 180, 1, 8, 162, 0, 23, 42, 180, 0, 67, 29, 92, 46]
abbrev dktX1_fitting_5 : List UInt8 := dkwX1_fitting_5 ++ dktX1_fitting_6
def dkwX1_fitting_4 : List UInt8 := [180, 1, 29, 4, 96, 181, 1, 29, 42, 89, 180, 1, 35, 28, 128, 181, 1, 35, 42, 89, 180, 1, 38, 28]
abbrev dktX1_fitting_4 : List UInt8 := dkwX1_fitting_4 ++ dktX1_fitting_5
def dkwX1_fitting_3 : List UInt8 := [16, 254, 159, 0, 6, 167, 0, 79, 42, 180, 1, 29, 27, 160, 0, 8, 42, 28, 181, 1, 32, 42, 89]
abbrev dktX1_fitting_3 : List UInt8 := dkwX1_fitting_3 ++ dktX1_fitting_4
def dkwX1_fitting_2 : List UInt8 := [167, 255, 241, 3, 61, 28, 4, 42, 180, 0, 98, 180, 1, 8, 120, 162, 0, 98, 42, 28, 182, 1, 41]
abbrev dktX1_fitting_2 : List UInt8 := dkwX1_fitting_2 ++ dktX1_fitting_3
def dkwX1_fitting_1 : List UInt8 := [120, 4, 100, 181, 1, 38, 3, 61, 28, 7, 162, 0, 16, 42, 180, 0, 67, 28, 3, 79, 132, 2, 1]
abbrev dktX1_fitting_1 : List UInt8 := dkwX1_fitting_1 ++ dktX1_fitting_2
def dkwX1_fitting_0 : List UInt8 := [42, 3, 181, 1, 29, 42, 2, 181, 1, 32, 42, 3, 181, 1, 35, 42, 4, 42, 180, 0, 98, 180, 1, 8]
abbrev dktX1_fitting_0 : List UInt8 := dkwX1_fitting_0 ++ dktX1_fitting_1
theorem dksX1_fitting_0 : cX1_fitting.data.toList.drop 0 = dktX1_fitting_0 := by decide +kernel
theorem dksX1_fitting_1 : cX1_fitting.data.toList.drop 24 = dktX1_fitting_1 := dk_seg dksX1_fitting_0 24 rfl rfl
theorem dksX1_fitting_2 : cX1_fitting.data.toList.drop 47 = dktX1_fitting_2 := dk_seg dksX1_fitting_1 23 rfl rfl
theorem dksX1_fitting_3 : cX1_fitting.data.toList.drop 70 = dktX1_fitting_3 := dk_seg dksX1_fitting_2 23 rfl rfl
theorem dksX1_fitting_4 : cX1_fitting.data.toList.drop 93 = dktX1_fitting_4 := dk_seg dksX1_fitting_3 23 rfl rfl
theorem dksX1_fitting_5 : cX1_fitting.data.toList.drop 117 = dktX1_fitting_5 := dk_seg dksX1_fitting_4 24 rfl rfl
theorem dksX1_fitting_6 : cX1_fitting.data.toList.drop 141 = dktX1_fitting_6 := dk_seg dksX1_fitting_5 24 rfl rfl
theorem dksX1_fitting_7 : cX1_fitting.data.toList.drop 164 = dktX1_fitting_7 := dk_seg dksX1_fitting_6 23 rfl rfl
theorem dX1_fitting_0 : decode cX1_fitting 0 = .ok (.aload_n 0, 1) := dk_42 (dk_at dksX1_fitting_0 0 rfl rfl)
theorem dX1_fitting_1 : decode cX1_fitting 1 = .ok (.iconst 0, 1) := dk_3 (dk_at dksX1_fitting_0 1 rfl rfl)
theorem dX1_fitting_2 : decode cX1_fitting 2 = .ok (.putfield 285, 3) := dk_181 1 29 (dk_at dksX1_fitting_0 2 rfl rfl)
theorem dX1_fitting_5 : decode cX1_fitting 5 = .ok (.aload_n 0, 1) := dk_42 (dk_at dksX1_fitting_0 5 rfl rfl)
theorem dX1_fitting_6 : decode cX1_fitting 6 = .ok (.iconst (-1), 1) := dk_2 (dk_at dksX1_fitting_0 6 rfl rfl)
theorem dX1_fitting_7 : decode cX1_fitting 7 = .ok (.putfield 288, 3) := dk_181 1 32 (dk_at dksX1_fitting_0 7 rfl rfl)
theorem dX1_fitting_10 : decode cX1_fitting 10 = .ok (.aload_n 0, 1) := dk_42 (dk_at dksX1_fitting_0 10 rfl rfl)
theorem dX1_fitting_11 : decode cX1_fitting 11 = .ok (.iconst 0, 1) := dk_3 (dk_at dksX1_fitting_0 11 rfl rfl)
theorem dX1_fitting_12 : decode cX1_fitting 12 = .ok (.putfield 291, 3) := dk_181 1 35 (dk_at dksX1_fitting_0 12 rfl rfl)
theorem dX1_fitting_15 : decode cX1_fitting 15 = .ok (.aload_n 0, 1) := dk_42 (dk_at dksX1_fitting_0 15 rfl rfl)
theorem dX1_fitting_16 : decode cX1_fitting 16 = .ok (.iconst 1, 1) := dk_4 (dk_at dksX1_fitting_0 16 rfl rfl)
theorem dX1_fitting_17 : decode cX1_fitting 17 = .ok (.aload_n 0, 1) := dk_42 (dk_at dksX1_fitting_0 17 rfl rfl)
theorem dX1_fitting_18 : decode cX1_fitting 18 = .ok (.getfield 98, 3) := dk_180 0 98 (dk_at dksX1_fitting_0 18 rfl rfl)
theorem dX1_fitting_21 : decode cX1_fitting 21 = .ok (.getfield 264, 3) := dk_180 1 8 (dk_at dksX1_fitting_0 21 rfl rfl)
theorem dX1_fitting_24 : decode cX1_fitting 24 = .ok (.ishl, 1) := dk_120 (dk_at dksX1_fitting_1 0 rfl rfl)
theorem dX1_fitting_25 : decode cX1_fitting 25 = .ok (.iconst 1, 1) := dk_4 (dk_at dksX1_fitting_1 1 rfl rfl)
theorem dX1_fitting_26 : decode cX1_fitting 26 = .ok (.isub, 1) := dk_100 (dk_at dksX1_fitting_1 2 rfl rfl)
theorem dX1_fitting_27 : decode cX1_fitting 27 = .ok (.putfield 294, 3) := dk_181 1 38 (dk_at dksX1_fitting_1 3 rfl rfl)
theorem dX1_fitting_30 : decode cX1_fitting 30 = .ok (.iconst 0, 1) := dk_3 (dk_at dksX1_fitting_1 6 rfl rfl)
theorem dX1_fitting_31 : decode cX1_fitting 31 = .ok (.istore_n 2, 1) := dk_61 (dk_at dksX1_fitting_1 7 rfl rfl)
theorem dX1_fitting_32 : decode cX1_fitting 32 = .ok (.iload_n 2, 1) := dk_28 (dk_at dksX1_fitting_1 8 rfl rfl)
theorem dX1_fitting_33 : decode cX1_fitting 33 = .ok (.iconst 4, 1) := dk_7 (dk_at dksX1_fitting_1 9 rfl rfl)
theorem dX1_fitting_34 : decode cX1_fitting 34 = .ok (.if_icmp .ge 16, 3) := dk_162 0 16 (dk_at dksX1_fitting_1 10 rfl rfl)
theorem dX1_fitting_37 : decode cX1_fitting 37 = .ok (.aload_n 0, 1) := dk_42 (dk_at dksX1_fitting_1 13 rfl rfl)
theorem dX1_fitting_38 : decode cX1_fitting 38 = .ok (.getfield 67, 3) := dk_180 0 67 (dk_at dksX1_fitting_1 14 rfl rfl)
theorem dX1_fitting_41 : decode cX1_fitting 41 = .ok (.iload_n 2, 1) := dk_28 (dk_at dksX1_fitting_1 17 rfl rfl)
theorem dX1_fitting_42 : decode cX1_fitting 42 = .ok (.iconst 0, 1) := dk_3 (dk_at dksX1_fitting_1 18 rfl rfl)
theorem dX1_fitting_43 : decode cX1_fitting 43 = .ok (.iastore, 1) := dk_79 (dk_at dksX1_fitting_1 19 rfl rfl)
theorem dX1_fitting_44 : decode cX1_fitting 44 = .ok (.iinc 2 1, 3) := dk_132 2 1 (dk_at dksX1_fitting_1 20 rfl rfl)
theorem dX1_fitting_47 : decode cX1_fitting 47 = .ok (.goto (-15), 3) := dk_167 255 241 (dk_at dksX1_fitting_2 0 rfl rfl)
theorem dX1_fitting_50 : decode cX1_fitting 50 = .ok (.iconst 0, 1) := dk_3 (dk_at dksX1_fitting_2 3 rfl rfl)
theorem dX1_fitting_51 : decode cX1_fitting 51 = .ok (.istore_n 2, 1) := dk_61 (dk_at dksX1_fitting_2 4 rfl rfl)
theorem dX1_fitting_52 : decode cX1_fitting 52 = .ok (.iload_n 2, 1) := dk_28 (dk_at dksX1_fitting_2 5 rfl rfl)
theorem dX1_fitting_53 : decode cX1_fitting 53 = .ok (.iconst 1, 1) := dk_4 (dk_at dksX1_fitting_2 6 rfl rfl)
theorem dX1_fitting_54 : decode cX1_fitting 54 = .ok (.aload_n 0, 1) := dk_42 (dk_at dksX1_fitting_2 7 rfl rfl)
theorem dX1_fitting_55 : decode cX1_fitting 55 = .ok (.getfield 98, 3) := dk_180 0 98 (dk_at dksX1_fitting_2 8 rfl rfl)
theorem dX1_fitting_58 : decode cX1_fitting 58 = .ok (.getfield 264, 3) := dk_180 1 8 (dk_at dksX1_fitting_2 11 rfl rfl)
theorem dX1_fitting_61 : decode cX1_fitting 61 = .ok (.ishl, 1) := dk_120 (dk_at dksX1_fitting_2 14 rfl rfl)
theorem dX1_fitting_62 : decode cX1_fitting 62 = .ok (.if_icmp .ge 98, 3) := dk_162 0 98 (dk_at dksX1_fitting_2 15 rfl rfl)
theorem dX1_fitting_65 : decode cX1_fitting 65 = .ok (.aload_n 0, 1) := dk_42 (dk_at dksX1_fitting_2 18 rfl rfl)
theorem dX1_fitting_66 : decode cX1_fitting 66 = .ok (.iload_n 2, 1) := dk_28 (dk_at dksX1_fitting_2 19 rfl rfl)
theorem dX1_fitting_67 : decode cX1_fitting 67 = .ok (.invokevirtual 297, 3) := dk_182 1 41 (dk_at dksX1_fitting_2 20 rfl rfl)
theorem dX1_fitting_70 : decode cX1_fitting 70 = .ok (.bipush (-2), 2) := dk_16 254 (dk_at dksX1_fitting_3 0 rfl rfl)
theorem dX1_fitting_72 : decode cX1_fitting 72 = .ok (.if_icmp .eq 6, 3) := dk_159 0 6 (dk_at dksX1_fitting_3 2 rfl rfl)
theorem dX1_fitting_75 : decode cX1_fitting 75 = .ok (.goto 79, 3) := dk_167 0 79 (dk_at dksX1_fitting_3 5 rfl rfl)
theorem dX1_fitting_78 : decode cX1_fitting 78 = .ok (.aload_n 0, 1) := dk_42 (dk_at dksX1_fitting_3 8 rfl rfl)
theorem dX1_fitting_79 : decode cX1_fitting 79 = .ok (.getfield 285, 3) := dk_180 1 29 (dk_at dksX1_fitting_3 9 rfl rfl)
theorem dX1_fitting_82 : decode cX1_fitting 82 = .ok (.iload_n 1, 1) := dk_27 (dk_at dksX1_fitting_3 12 rfl rfl)
theorem dX1_fitting_83 : decode cX1_fitting 83 = .ok (.if_icmp .ne 8, 3) := dk_160 0 8 (dk_at dksX1_fitting_3 13 rfl rfl)
theorem dX1_fitting_86 : decode cX1_fitting 86 = .ok (.aload_n 0, 1) := dk_42 (dk_at dksX1_fitting_3 16 rfl rfl)
theorem dX1_fitting_87 : decode cX1_fitting 87 = .ok (.iload_n 2, 1) := dk_28 (dk_at dksX1_fitting_3 17 rfl rfl)
theorem dX1_fitting_88 : decode cX1_fitting 88 = .ok (.putfield 288, 3) := dk_181 1 32 (dk_at dksX1_fitting_3 18 rfl rfl)
theorem dX1_fitting_91 : decode cX1_fitting 91 = .ok (.aload_n 0, 1) := dk_42 (dk_at dksX1_fitting_3 21 rfl rfl)
theorem dX1_fitting_92 : decode cX1_fitting 92 = .ok (.dup, 1) := dk_89 (dk_at dksX1_fitting_3 22 rfl rfl)
theorem dX1_fitting_93 : decode cX1_fitting 93 = .ok (.getfield 285, 3) := dk_180 1 29 (dk_at dksX1_fitting_4 0 rfl rfl)
theorem dX1_fitting_96 : decode cX1_fitting 96 = .ok (.iconst 1, 1) := dk_4 (dk_at dksX1_fitting_4 3 rfl rfl)
theorem dX1_fitting_97 : decode cX1_fitting 97 = .ok (.iadd, 1) := dk_96 (dk_at dksX1_fitting_4 4 rfl rfl)
theorem dX1_fitting_98 : decode cX1_fitting 98 = .ok (.putfield 285, 3) := dk_181 1 29 (dk_at dksX1_fitting_4 5 rfl rfl)
theorem dX1_fitting_101 : decode cX1_fitting 101 = .ok (.aload_n 0, 1) := dk_42 (dk_at dksX1_fitting_4 8 rfl rfl)
theorem dX1_fitting_102 : decode cX1_fitting 102 = .ok (.dup, 1) := dk_89 (dk_at dksX1_fitting_4 9 rfl rfl)
theorem dX1_fitting_103 : decode cX1_fitting 103 = .ok (.getfield 291, 3) := dk_180 1 35 (dk_at dksX1_fitting_4 10 rfl rfl)
theorem dX1_fitting_106 : decode cX1_fitting 106 = .ok (.iload_n 2, 1) := dk_28 (dk_at dksX1_fitting_4 13 rfl rfl)
theorem dX1_fitting_107 : decode cX1_fitting 107 = .ok (.ior, 1) := dk_128 (dk_at dksX1_fitting_4 14 rfl rfl)
theorem dX1_fitting_108 : decode cX1_fitting 108 = .ok (.putfield 291, 3) := dk_181 1 35 (dk_at dksX1_fitting_4 15 rfl rfl)
theorem dX1_fitting_111 : decode cX1_fitting 111 = .ok (.aload_n 0, 1) := dk_42 (dk_at dksX1_fitting_4 18 rfl rfl)
theorem dX1_fitting_112 : decode cX1_fitting 112 = .ok (.dup, 1) := dk_89 (dk_at dksX1_fitting_4 19 rfl rfl)
theorem dX1_fitting_113 : decode cX1_fitting 113 = .ok (.getfield 294, 3) := dk_180 1 38 (dk_at dksX1_fitting_4 20 rfl rfl)
theorem dX1_fitting_116 : decode cX1_fitting 116 = .ok (.iload_n 2, 1) := dk_28 (dk_at dksX1_fitting_4 23 rfl rfl)
theorem dX1_fitting_117 : decode cX1_fitting 117 = .ok (.iand, 1) := dk_126 (dk_at dksX1_fitting_5 0 rfl rfl)
theorem dX1_fitting_118 : decode cX1_fitting 118 = .ok (.putfield 294, 3) := dk_181 1 38 (dk_at dksX1_fitting_5 1 rfl rfl)
theorem dX1_fitting_121 : decode cX1_fitting 121 = .ok (.iconst 0, 1) := dk_3 (dk_at dksX1_fitting_5 4 rfl rfl)
theorem dX1_fitting_122 : decode cX1_fitting 122 = .ok (.istore_n 3, 1) := dk_62 (dk_at dksX1_fitting_5 5 rfl rfl)
theorem dX1_fitting_123 : decode cX1_fitting 123 = .ok (.iload_n 3, 1) := dk_29 (dk_at dksX1_fitting_5 6 rfl rfl)
theorem dX1_fitting_124 : decode cX1_fitting 124 = .ok (.aload_n 0, 1) := dk_42 (dk_at dksX1_fitting_5 7 rfl rfl)
theorem dX1_fitting_125 : decode cX1_fitting 125 = .ok (.getfield 98, 3) := dk_180 0 98 (dk_at dksX1_fitting_5 8 rfl rfl)
theorem dX1_fitting_128 : decode cX1_fitting 128 = .ok (.getfield 264, 3) := dk_180 1 8 (dk_at dksX1_fitting_5 11 rfl rfl)
theorem dX1_fitting_131 : decode cX1_fitting 131 = .ok (.if_icmp .ge 23, 3) := dk_162 0 23 (dk_at dksX1_fitting_5 14 rfl rfl)
theorem dX1_fitting_134 : decode cX1_fitting 134 = .ok (.aload_n 0, 1) := dk_42 (dk_at dksX1_fitting_5 17 rfl rfl)
theorem dX1_fitting_135 : decode cX1_fitting 135 = .ok (.getfield 67, 3) := dk_180 0 67 (dk_at dksX1_fitting_5 18 rfl rfl)
theorem dX1_fitting_138 : decode cX1_fitting 138 = .ok (.iload_n 3, 1) := dk_29 (dk_at dksX1_fitting_5 21 rfl rfl)
theorem dX1_fitting_139 : decode cX1_fitting 139 = .ok (.dup2, 1) := dk_92 (dk_at dksX1_fitting_5 22 rfl rfl)
theorem dX1_fitting_140 : decode cX1_fitting 140 = .ok (.iaload, 1) := dk_46 (dk_at dksX1_fitting_5 23 rfl rfl)
theorem dX1_fitting_141 : decode cX1_fitting 141 = .ok (.iload_n 2, 1) := dk_28 (dk_at dksX1_fitting_6 0 rfl rfl)
theorem dX1_fitting_142 : decode cX1_fitting 142 = .ok (.iload_n 3, 1) := dk_29 (dk_at dksX1_fitting_6 1 rfl rfl)
theorem dX1_fitting_143 : decode cX1_fitting 143 = .ok (.ishr, 1) := dk_122 (dk_at dksX1_fitting_6 2 rfl rfl)
theorem dX1_fitting_144 : decode cX1_fitting 144 = .ok (.iconst 1, 1) := dk_4 (dk_at dksX1_fitting_6 3 rfl rfl)
theorem dX1_fitting_145 : decode cX1_fitting 145 = .ok (.iand, 1) := dk_126 (dk_at dksX1_fitting_6 4 rfl rfl)
theorem dX1_fitting_146 : decode cX1_fitting 146 = .ok (.iadd, 1) := dk_96 (dk_at dksX1_fitting_6 5 rfl rfl)
theorem dX1_fitting_147 : decode cX1_fitting 147 = .ok (.iastore, 1) := dk_79 (dk_at dksX1_fitting_6 6 rfl rfl)
theorem dX1_fitting_148 : decode cX1_fitting 148 = .ok (.iinc 3 1, 3) := dk_132 3 1 (dk_at dksX1_fitting_6 7 rfl rfl)
theorem dX1_fitting_151 : decode cX1_fitting 151 = .ok (.goto (-28), 3) := dk_167 255 228 (dk_at dksX1_fitting_6 10 rfl rfl)
theorem dX1_fitting_154 : decode cX1_fitting 154 = .ok (.iinc 2 1, 3) := dk_132 2 1 (dk_at dksX1_fitting_6 13 rfl rfl)
theorem dX1_fitting_157 : decode cX1_fitting 157 = .ok (.goto (-105), 3) := dk_167 255 151 (dk_at dksX1_fitting_6 16 rfl rfl)
theorem dX1_fitting_160 : decode cX1_fitting 160 = .ok (.aload_n 0, 1) := dk_42 (dk_at dksX1_fitting_6 19 rfl rfl)
theorem dX1_fitting_161 : decode cX1_fitting 161 = .ok (.getfield 285, 3) := dk_180 1 29 (dk_at dksX1_fitting_6 20 rfl rfl)
theorem dX1_fitting_164 : decode cX1_fitting 164 = .ok (.ifCond .ne 8, 3) := dk_154 0 8 (dk_at dksX1_fitting_7 0 rfl rfl)
theorem dX1_fitting_167 : decode cX1_fitting 167 = .ok (.aload_n 0, 1) := dk_42 (dk_at dksX1_fitting_7 3 rfl rfl)
theorem dX1_fitting_168 : decode cX1_fitting 168 = .ok (.iconst 0, 1) := dk_3 (dk_at dksX1_fitting_7 4 rfl rfl)
theorem dX1_fitting_169 : decode cX1_fitting 169 = .ok (.putfield 294, 3) := dk_181 1 38 (dk_at dksX1_fitting_7 5 rfl rfl)
theorem dX1_fitting_172 : decode cX1_fitting 172 = .ok (.return_, 1) := dk_177 (dk_at dksX1_fitting_7 8 rfl rfl)
abbrev cX1_wrong : ByteArray := prog_1_method_58_code
def yX1_wrong : MethodName := ⟨RX1, "wrong", "(I)I"⟩
def dkwX1_wrong_6 : List UInt8 := [16, 254, 172]
abbrev dktX1_wrong_6 : List UInt8 := dkwX1_wrong_6 ++ []
def dkwX1_wrong_5 : List UInt8 := [182, 0, 189, 42, 180, 0, 98, 180, 1, 26, 28, 46, 159, 0, 5, 28, 172, 132, 2, 1, 167, 255, 202]
abbrev dktX1_wrong_5 : List UInt8 := dkwX1_wrong_5 ++ dktX1_wrong_6
def dkwX1_wrong_4 : List UInt8 := [180, 0, 40, 42, 180, 0, 98, 180, 1, 20, 28, 46, 42, 180, 0, 98, 180, 1, 23, 28, 46, 3]
abbrev dktX1_wrong_4 : List UInt8 := dkwX1_wrong_4 ++ dktX1_wrong_5
def dkwX1_wrong_3 : List UInt8 := [180, 1, 14, 79, 132, 2, 1, 167, 255, 197, 3, 61, 28, 42, 180, 0, 98, 180, 1, 17, 162, 0, 49, 42]
abbrev dktX1_wrong_3 : List UInt8 := dkwX1_wrong_3 ++ dktX1_wrong_4
def dkwX1_wrong_2 : List UInt8 := [180, 1, 11, 28, 46, 42, 180, 0, 98, 180, 0, 153, 42, 180, 0, 98, 180, 1, 11, 28, 46, 50]
abbrev dktX1_wrong_2 : List UInt8 := dkwX1_wrong_2 ++ dktX1_wrong_3
def dkwX1_wrong_1 : List UInt8 := [162, 0, 54, 27, 28, 184, 0, 232, 153, 0, 40, 42, 180, 0, 40, 180, 0, 163, 42, 180, 0, 98]
abbrev dktX1_wrong_1 : List UInt8 := dkwX1_wrong_1 ++ dktX1_wrong_2
def dkwX1_wrong_0 : List UInt8 := [42, 180, 0, 40, 42, 180, 0, 98, 182, 0, 108, 87, 3, 61, 28, 42, 180, 0, 98, 180, 1, 8]
abbrev dktX1_wrong_0 : List UInt8 := dkwX1_wrong_0 ++ dktX1_wrong_1
theorem dksX1_wrong_0 : cX1_wrong.data.toList.drop 0 = dktX1_wrong_0 := by decide +kernel
theorem dksX1_wrong_1 : cX1_wrong.data.toList.drop 22 = dktX1_wrong_1 := dk_seg dksX1_wrong_0 22 rfl rfl
theorem dksX1_wrong_2 : cX1_wrong.data.toList.drop 44 = dktX1_wrong_2 := dk_seg dksX1_wrong_1 22 rfl rfl
theorem dksX1_wrong_3 : cX1_wrong.data.toList.drop 66 = dktX1_wrong_3 := dk_seg dksX1_wrong_2 22 rfl rfl
theorem dksX1_wrong_4 : cX1_wrong.data.toList.drop 90 = dktX1_wrong_4 := dk_seg dksX1_wrong_3 24 rfl rfl
theorem dksX1_wrong_5 : cX1_wrong.data.toList.drop 112 = dktX1_wrong_5 := dk_seg dksX1_wrong_4 22 rfl rfl
theorem dksX1_wrong_6 : cX1_wrong.data.toList.drop 135 = dktX1_wrong_6 := dk_seg dksX1_wrong_5 23 rfl rfl
theorem dX1_wrong_0 : decode cX1_wrong 0 = .ok (.aload_n 0, 1) := dk_42 (dk_at dksX1_wrong_0 0 rfl rfl)
theorem dX1_wrong_1 : decode cX1_wrong 1 = .ok (.getfield 40, 3) := dk_180 0 40 (dk_at dksX1_wrong_0 1 rfl rfl)
theorem dX1_wrong_4 : decode cX1_wrong 4 = .ok (.aload_n 0, 1) := dk_42 (dk_at dksX1_wrong_0 4 rfl rfl)
theorem dX1_wrong_5 : decode cX1_wrong 5 = .ok (.getfield 98, 3) := dk_180 0 98 (dk_at dksX1_wrong_0 5 rfl rfl)
theorem dX1_wrong_8 : decode cX1_wrong 8 = .ok (.invokevirtual 108, 3) := dk_182 0 108 (dk_at dksX1_wrong_0 8 rfl rfl)
theorem dX1_wrong_11 : decode cX1_wrong 11 = .ok (.pop, 1) := dk_87 (dk_at dksX1_wrong_0 11 rfl rfl)
theorem dX1_wrong_12 : decode cX1_wrong 12 = .ok (.iconst 0, 1) := dk_3 (dk_at dksX1_wrong_0 12 rfl rfl)
theorem dX1_wrong_13 : decode cX1_wrong 13 = .ok (.istore_n 2, 1) := dk_61 (dk_at dksX1_wrong_0 13 rfl rfl)
theorem dX1_wrong_14 : decode cX1_wrong 14 = .ok (.iload_n 2, 1) := dk_28 (dk_at dksX1_wrong_0 14 rfl rfl)
theorem dX1_wrong_15 : decode cX1_wrong 15 = .ok (.aload_n 0, 1) := dk_42 (dk_at dksX1_wrong_0 15 rfl rfl)
theorem dX1_wrong_16 : decode cX1_wrong 16 = .ok (.getfield 98, 3) := dk_180 0 98 (dk_at dksX1_wrong_0 16 rfl rfl)
theorem dX1_wrong_19 : decode cX1_wrong 19 = .ok (.getfield 264, 3) := dk_180 1 8 (dk_at dksX1_wrong_0 19 rfl rfl)
theorem dX1_wrong_22 : decode cX1_wrong 22 = .ok (.if_icmp .ge 54, 3) := dk_162 0 54 (dk_at dksX1_wrong_1 0 rfl rfl)
theorem dX1_wrong_25 : decode cX1_wrong 25 = .ok (.iload_n 1, 1) := dk_27 (dk_at dksX1_wrong_1 3 rfl rfl)
theorem dX1_wrong_26 : decode cX1_wrong 26 = .ok (.iload_n 2, 1) := dk_28 (dk_at dksX1_wrong_1 4 rfl rfl)
theorem dX1_wrong_27 : decode cX1_wrong 27 = .ok (.invokestatic 232, 3) := dk_184 0 232 (dk_at dksX1_wrong_1 5 rfl rfl)
theorem dX1_wrong_30 : decode cX1_wrong 30 = .ok (.ifCond .eq 40, 3) := dk_153 0 40 (dk_at dksX1_wrong_1 8 rfl rfl)
theorem dX1_wrong_33 : decode cX1_wrong 33 = .ok (.aload_n 0, 1) := dk_42 (dk_at dksX1_wrong_1 11 rfl rfl)
theorem dX1_wrong_34 : decode cX1_wrong 34 = .ok (.getfield 40, 3) := dk_180 0 40 (dk_at dksX1_wrong_1 12 rfl rfl)
theorem dX1_wrong_37 : decode cX1_wrong 37 = .ok (.getfield 163, 3) := dk_180 0 163 (dk_at dksX1_wrong_1 15 rfl rfl)
theorem dX1_wrong_40 : decode cX1_wrong 40 = .ok (.aload_n 0, 1) := dk_42 (dk_at dksX1_wrong_1 18 rfl rfl)
theorem dX1_wrong_41 : decode cX1_wrong 41 = .ok (.getfield 98, 3) := dk_180 0 98 (dk_at dksX1_wrong_1 19 rfl rfl)
theorem dX1_wrong_44 : decode cX1_wrong 44 = .ok (.getfield 267, 3) := dk_180 1 11 (dk_at dksX1_wrong_2 0 rfl rfl)
theorem dX1_wrong_47 : decode cX1_wrong 47 = .ok (.iload_n 2, 1) := dk_28 (dk_at dksX1_wrong_2 3 rfl rfl)
theorem dX1_wrong_48 : decode cX1_wrong 48 = .ok (.iaload, 1) := dk_46 (dk_at dksX1_wrong_2 4 rfl rfl)
theorem dX1_wrong_49 : decode cX1_wrong 49 = .ok (.aload_n 0, 1) := dk_42 (dk_at dksX1_wrong_2 5 rfl rfl)
theorem dX1_wrong_50 : decode cX1_wrong 50 = .ok (.getfield 98, 3) := dk_180 0 98 (dk_at dksX1_wrong_2 6 rfl rfl)
theorem dX1_wrong_53 : decode cX1_wrong 53 = .ok (.getfield 153, 3) := dk_180 0 153 (dk_at dksX1_wrong_2 9 rfl rfl)
theorem dX1_wrong_56 : decode cX1_wrong 56 = .ok (.aload_n 0, 1) := dk_42 (dk_at dksX1_wrong_2 12 rfl rfl)
theorem dX1_wrong_57 : decode cX1_wrong 57 = .ok (.getfield 98, 3) := dk_180 0 98 (dk_at dksX1_wrong_2 13 rfl rfl)
theorem dX1_wrong_60 : decode cX1_wrong 60 = .ok (.getfield 267, 3) := dk_180 1 11 (dk_at dksX1_wrong_2 16 rfl rfl)
theorem dX1_wrong_63 : decode cX1_wrong 63 = .ok (.iload_n 2, 1) := dk_28 (dk_at dksX1_wrong_2 19 rfl rfl)
theorem dX1_wrong_64 : decode cX1_wrong 64 = .ok (.iaload, 1) := dk_46 (dk_at dksX1_wrong_2 20 rfl rfl)
theorem dX1_wrong_65 : decode cX1_wrong 65 = .ok (.aaload, 1) := dk_50 (dk_at dksX1_wrong_2 21 rfl rfl)
theorem dX1_wrong_66 : decode cX1_wrong 66 = .ok (.getfield 270, 3) := dk_180 1 14 (dk_at dksX1_wrong_3 0 rfl rfl)
theorem dX1_wrong_69 : decode cX1_wrong 69 = .ok (.iastore, 1) := dk_79 (dk_at dksX1_wrong_3 3 rfl rfl)
theorem dX1_wrong_70 : decode cX1_wrong 70 = .ok (.iinc 2 1, 3) := dk_132 2 1 (dk_at dksX1_wrong_3 4 rfl rfl)
theorem dX1_wrong_73 : decode cX1_wrong 73 = .ok (.goto (-59), 3) := dk_167 255 197 (dk_at dksX1_wrong_3 7 rfl rfl)
theorem dX1_wrong_76 : decode cX1_wrong 76 = .ok (.iconst 0, 1) := dk_3 (dk_at dksX1_wrong_3 10 rfl rfl)
theorem dX1_wrong_77 : decode cX1_wrong 77 = .ok (.istore_n 2, 1) := dk_61 (dk_at dksX1_wrong_3 11 rfl rfl)
theorem dX1_wrong_78 : decode cX1_wrong 78 = .ok (.iload_n 2, 1) := dk_28 (dk_at dksX1_wrong_3 12 rfl rfl)
theorem dX1_wrong_79 : decode cX1_wrong 79 = .ok (.aload_n 0, 1) := dk_42 (dk_at dksX1_wrong_3 13 rfl rfl)
theorem dX1_wrong_80 : decode cX1_wrong 80 = .ok (.getfield 98, 3) := dk_180 0 98 (dk_at dksX1_wrong_3 14 rfl rfl)
theorem dX1_wrong_83 : decode cX1_wrong 83 = .ok (.getfield 273, 3) := dk_180 1 17 (dk_at dksX1_wrong_3 17 rfl rfl)
theorem dX1_wrong_86 : decode cX1_wrong 86 = .ok (.if_icmp .ge 49, 3) := dk_162 0 49 (dk_at dksX1_wrong_3 20 rfl rfl)
theorem dX1_wrong_89 : decode cX1_wrong 89 = .ok (.aload_n 0, 1) := dk_42 (dk_at dksX1_wrong_3 23 rfl rfl)
theorem dX1_wrong_90 : decode cX1_wrong 90 = .ok (.getfield 40, 3) := dk_180 0 40 (dk_at dksX1_wrong_4 0 rfl rfl)
theorem dX1_wrong_93 : decode cX1_wrong 93 = .ok (.aload_n 0, 1) := dk_42 (dk_at dksX1_wrong_4 3 rfl rfl)
theorem dX1_wrong_94 : decode cX1_wrong 94 = .ok (.getfield 98, 3) := dk_180 0 98 (dk_at dksX1_wrong_4 4 rfl rfl)
theorem dX1_wrong_97 : decode cX1_wrong 97 = .ok (.getfield 276, 3) := dk_180 1 20 (dk_at dksX1_wrong_4 7 rfl rfl)
theorem dX1_wrong_100 : decode cX1_wrong 100 = .ok (.iload_n 2, 1) := dk_28 (dk_at dksX1_wrong_4 10 rfl rfl)
theorem dX1_wrong_101 : decode cX1_wrong 101 = .ok (.iaload, 1) := dk_46 (dk_at dksX1_wrong_4 11 rfl rfl)
theorem dX1_wrong_102 : decode cX1_wrong 102 = .ok (.aload_n 0, 1) := dk_42 (dk_at dksX1_wrong_4 12 rfl rfl)
theorem dX1_wrong_103 : decode cX1_wrong 103 = .ok (.getfield 98, 3) := dk_180 0 98 (dk_at dksX1_wrong_4 13 rfl rfl)
theorem dX1_wrong_106 : decode cX1_wrong 106 = .ok (.getfield 279, 3) := dk_180 1 23 (dk_at dksX1_wrong_4 16 rfl rfl)
theorem dX1_wrong_109 : decode cX1_wrong 109 = .ok (.iload_n 2, 1) := dk_28 (dk_at dksX1_wrong_4 19 rfl rfl)
theorem dX1_wrong_110 : decode cX1_wrong 110 = .ok (.iaload, 1) := dk_46 (dk_at dksX1_wrong_4 20 rfl rfl)
theorem dX1_wrong_111 : decode cX1_wrong 111 = .ok (.iconst 0, 1) := dk_3 (dk_at dksX1_wrong_4 21 rfl rfl)
theorem dX1_wrong_112 : decode cX1_wrong 112 = .ok (.invokevirtual 189, 3) := dk_182 0 189 (dk_at dksX1_wrong_5 0 rfl rfl)
theorem dX1_wrong_115 : decode cX1_wrong 115 = .ok (.aload_n 0, 1) := dk_42 (dk_at dksX1_wrong_5 3 rfl rfl)
theorem dX1_wrong_116 : decode cX1_wrong 116 = .ok (.getfield 98, 3) := dk_180 0 98 (dk_at dksX1_wrong_5 4 rfl rfl)
theorem dX1_wrong_119 : decode cX1_wrong 119 = .ok (.getfield 282, 3) := dk_180 1 26 (dk_at dksX1_wrong_5 7 rfl rfl)
theorem dX1_wrong_122 : decode cX1_wrong 122 = .ok (.iload_n 2, 1) := dk_28 (dk_at dksX1_wrong_5 10 rfl rfl)
theorem dX1_wrong_123 : decode cX1_wrong 123 = .ok (.iaload, 1) := dk_46 (dk_at dksX1_wrong_5 11 rfl rfl)
theorem dX1_wrong_124 : decode cX1_wrong 124 = .ok (.if_icmp .eq 5, 3) := dk_159 0 5 (dk_at dksX1_wrong_5 12 rfl rfl)
theorem dX1_wrong_127 : decode cX1_wrong 127 = .ok (.iload_n 2, 1) := dk_28 (dk_at dksX1_wrong_5 15 rfl rfl)
theorem dX1_wrong_128 : decode cX1_wrong 128 = .ok (.ireturn, 1) := dk_172 (dk_at dksX1_wrong_5 16 rfl rfl)
theorem dX1_wrong_129 : decode cX1_wrong 129 = .ok (.iinc 2 1, 3) := dk_132 2 1 (dk_at dksX1_wrong_5 17 rfl rfl)
theorem dX1_wrong_132 : decode cX1_wrong 132 = .ok (.goto (-54), 3) := dk_167 255 202 (dk_at dksX1_wrong_5 20 rfl rfl)
theorem dX1_wrong_135 : decode cX1_wrong 135 = .ok (.bipush (-2), 2) := dk_16 254 (dk_at dksX1_wrong_6 0 rfl rfl)
theorem dX1_wrong_137 : decode cX1_wrong 137 = .ok (.ireturn, 1) := dk_172 (dk_at dksX1_wrong_6 2 rfl rfl)
abbrev cX1_fitAt : ByteArray := prog_1_method_61_code
def yX1_fitAt : MethodName := ⟨RX1, "fitAt", "(I)I"⟩
def dkwX1_fitAt_1 : List UInt8 := [180, 1, 32, 156, 0, 11, 42, 4, 182, 0, 87, 167, 0, 7, 42, 180, 1, 32, 172]
abbrev dktX1_fitAt_1 : List UInt8 := dkwX1_fitAt_1 ++ []
def dkwX1_fitAt_0 : List UInt8 := [42, 182, 0, 73, 42, 180, 0, 98, 199, 0, 9, 42, 4, 182, 0, 87, 172, 42, 27, 182, 1, 44, 42]
abbrev dktX1_fitAt_0 : List UInt8 := dkwX1_fitAt_0 ++ dktX1_fitAt_1
theorem dksX1_fitAt_0 : cX1_fitAt.data.toList.drop 0 = dktX1_fitAt_0 := by decide +kernel
theorem dksX1_fitAt_1 : cX1_fitAt.data.toList.drop 23 = dktX1_fitAt_1 := dk_seg dksX1_fitAt_0 23 rfl rfl
theorem dX1_fitAt_0 : decode cX1_fitAt 0 = .ok (.aload_n 0, 1) := dk_42 (dk_at dksX1_fitAt_0 0 rfl rfl)
theorem dX1_fitAt_1 : decode cX1_fitAt 1 = .ok (.invokevirtual 73, 3) := dk_182 0 73 (dk_at dksX1_fitAt_0 1 rfl rfl)
theorem dX1_fitAt_4 : decode cX1_fitAt 4 = .ok (.aload_n 0, 1) := dk_42 (dk_at dksX1_fitAt_0 4 rfl rfl)
theorem dX1_fitAt_5 : decode cX1_fitAt 5 = .ok (.getfield 98, 3) := dk_180 0 98 (dk_at dksX1_fitAt_0 5 rfl rfl)
theorem dX1_fitAt_8 : decode cX1_fitAt 8 = .ok (.ifnonnull 9, 3) := dk_199 0 9 (dk_at dksX1_fitAt_0 8 rfl rfl)
theorem dX1_fitAt_11 : decode cX1_fitAt 11 = .ok (.aload_n 0, 1) := dk_42 (dk_at dksX1_fitAt_0 11 rfl rfl)
theorem dX1_fitAt_12 : decode cX1_fitAt 12 = .ok (.iconst 1, 1) := dk_4 (dk_at dksX1_fitAt_0 12 rfl rfl)
theorem dX1_fitAt_13 : decode cX1_fitAt 13 = .ok (.invokevirtual 87, 3) := dk_182 0 87 (dk_at dksX1_fitAt_0 13 rfl rfl)
theorem dX1_fitAt_16 : decode cX1_fitAt 16 = .ok (.ireturn, 1) := dk_172 (dk_at dksX1_fitAt_0 16 rfl rfl)
theorem dX1_fitAt_17 : decode cX1_fitAt 17 = .ok (.aload_n 0, 1) := dk_42 (dk_at dksX1_fitAt_0 17 rfl rfl)
theorem dX1_fitAt_18 : decode cX1_fitAt 18 = .ok (.iload_n 1, 1) := dk_27 (dk_at dksX1_fitAt_0 18 rfl rfl)
theorem dX1_fitAt_19 : decode cX1_fitAt 19 = .ok (.invokevirtual 300, 3) := dk_182 1 44 (dk_at dksX1_fitAt_0 19 rfl rfl)
theorem dX1_fitAt_22 : decode cX1_fitAt 22 = .ok (.aload_n 0, 1) := dk_42 (dk_at dksX1_fitAt_0 22 rfl rfl)
theorem dX1_fitAt_23 : decode cX1_fitAt 23 = .ok (.getfield 288, 3) := dk_180 1 32 (dk_at dksX1_fitAt_1 0 rfl rfl)
theorem dX1_fitAt_26 : decode cX1_fitAt 26 = .ok (.ifCond .ge 11, 3) := dk_156 0 11 (dk_at dksX1_fitAt_1 3 rfl rfl)
theorem dX1_fitAt_29 : decode cX1_fitAt 29 = .ok (.aload_n 0, 1) := dk_42 (dk_at dksX1_fitAt_1 6 rfl rfl)
theorem dX1_fitAt_30 : decode cX1_fitAt 30 = .ok (.iconst 1, 1) := dk_4 (dk_at dksX1_fitAt_1 7 rfl rfl)
theorem dX1_fitAt_31 : decode cX1_fitAt 31 = .ok (.invokevirtual 87, 3) := dk_182 0 87 (dk_at dksX1_fitAt_1 8 rfl rfl)
theorem dX1_fitAt_34 : decode cX1_fitAt 34 = .ok (.goto 7, 3) := dk_167 0 7 (dk_at dksX1_fitAt_1 11 rfl rfl)
theorem dX1_fitAt_37 : decode cX1_fitAt 37 = .ok (.aload_n 0, 1) := dk_42 (dk_at dksX1_fitAt_1 14 rfl rfl)
theorem dX1_fitAt_38 : decode cX1_fitAt 38 = .ok (.getfield 288, 3) := dk_180 1 32 (dk_at dksX1_fitAt_1 15 rfl rfl)
theorem dX1_fitAt_41 : decode cX1_fitAt 41 = .ok (.ireturn, 1) := dk_172 (dk_at dksX1_fitAt_1 18 rfl rfl)
abbrev cX1_could : ByteArray := prog_1_method_62_code
def yX1_could : MethodName := ⟨RX1, "could", "()I"⟩
def dkwX1_could_1 : List UInt8 := [180, 1, 35, 172]
abbrev dktX1_could_1 : List UInt8 := dkwX1_could_1 ++ []
def dkwX1_could_0 : List UInt8 := [42, 182, 0, 73, 42, 180, 0, 98, 199, 0, 9, 42, 4, 182, 0, 87, 172, 42, 2, 182, 1, 44, 42]
abbrev dktX1_could_0 : List UInt8 := dkwX1_could_0 ++ dktX1_could_1
theorem dksX1_could_0 : cX1_could.data.toList.drop 0 = dktX1_could_0 := by decide +kernel
theorem dksX1_could_1 : cX1_could.data.toList.drop 23 = dktX1_could_1 := dk_seg dksX1_could_0 23 rfl rfl
theorem dX1_could_0 : decode cX1_could 0 = .ok (.aload_n 0, 1) := dk_42 (dk_at dksX1_could_0 0 rfl rfl)
theorem dX1_could_1 : decode cX1_could 1 = .ok (.invokevirtual 73, 3) := dk_182 0 73 (dk_at dksX1_could_0 1 rfl rfl)
theorem dX1_could_4 : decode cX1_could 4 = .ok (.aload_n 0, 1) := dk_42 (dk_at dksX1_could_0 4 rfl rfl)
theorem dX1_could_5 : decode cX1_could 5 = .ok (.getfield 98, 3) := dk_180 0 98 (dk_at dksX1_could_0 5 rfl rfl)
theorem dX1_could_8 : decode cX1_could 8 = .ok (.ifnonnull 9, 3) := dk_199 0 9 (dk_at dksX1_could_0 8 rfl rfl)
theorem dX1_could_11 : decode cX1_could 11 = .ok (.aload_n 0, 1) := dk_42 (dk_at dksX1_could_0 11 rfl rfl)
theorem dX1_could_12 : decode cX1_could 12 = .ok (.iconst 1, 1) := dk_4 (dk_at dksX1_could_0 12 rfl rfl)
theorem dX1_could_13 : decode cX1_could 13 = .ok (.invokevirtual 87, 3) := dk_182 0 87 (dk_at dksX1_could_0 13 rfl rfl)
theorem dX1_could_16 : decode cX1_could 16 = .ok (.ireturn, 1) := dk_172 (dk_at dksX1_could_0 16 rfl rfl)
theorem dX1_could_17 : decode cX1_could 17 = .ok (.aload_n 0, 1) := dk_42 (dk_at dksX1_could_0 17 rfl rfl)
theorem dX1_could_18 : decode cX1_could 18 = .ok (.iconst (-1), 1) := dk_2 (dk_at dksX1_could_0 18 rfl rfl)
theorem dX1_could_19 : decode cX1_could 19 = .ok (.invokevirtual 300, 3) := dk_182 1 44 (dk_at dksX1_could_0 19 rfl rfl)
theorem dX1_could_22 : decode cX1_could 22 = .ok (.aload_n 0, 1) := dk_42 (dk_at dksX1_could_0 22 rfl rfl)
theorem dX1_could_23 : decode cX1_could 23 = .ok (.getfield 291, 3) := dk_180 1 35 (dk_at dksX1_could_1 0 rfl rfl)
theorem dX1_could_26 : decode cX1_could 26 = .ok (.ireturn, 1) := dk_172 (dk_at dksX1_could_1 3 rfl rfl)
abbrev cX1_surely : ByteArray := prog_1_method_63_code
def yX1_surely : MethodName := ⟨RX1, "surely", "()I"⟩
def dkwX1_surely_1 : List UInt8 := [180, 1, 38, 172]
abbrev dktX1_surely_1 : List UInt8 := dkwX1_surely_1 ++ []
def dkwX1_surely_0 : List UInt8 := [42, 182, 0, 73, 42, 180, 0, 98, 199, 0, 9, 42, 4, 182, 0, 87, 172, 42, 2, 182, 1, 44, 42]
abbrev dktX1_surely_0 : List UInt8 := dkwX1_surely_0 ++ dktX1_surely_1
theorem dksX1_surely_0 : cX1_surely.data.toList.drop 0 = dktX1_surely_0 := by decide +kernel
theorem dksX1_surely_1 : cX1_surely.data.toList.drop 23 = dktX1_surely_1 := dk_seg dksX1_surely_0 23 rfl rfl
theorem dX1_surely_0 : decode cX1_surely 0 = .ok (.aload_n 0, 1) := dk_42 (dk_at dksX1_surely_0 0 rfl rfl)
theorem dX1_surely_1 : decode cX1_surely 1 = .ok (.invokevirtual 73, 3) := dk_182 0 73 (dk_at dksX1_surely_0 1 rfl rfl)
theorem dX1_surely_4 : decode cX1_surely 4 = .ok (.aload_n 0, 1) := dk_42 (dk_at dksX1_surely_0 4 rfl rfl)
theorem dX1_surely_5 : decode cX1_surely 5 = .ok (.getfield 98, 3) := dk_180 0 98 (dk_at dksX1_surely_0 5 rfl rfl)
theorem dX1_surely_8 : decode cX1_surely 8 = .ok (.ifnonnull 9, 3) := dk_199 0 9 (dk_at dksX1_surely_0 8 rfl rfl)
theorem dX1_surely_11 : decode cX1_surely 11 = .ok (.aload_n 0, 1) := dk_42 (dk_at dksX1_surely_0 11 rfl rfl)
theorem dX1_surely_12 : decode cX1_surely 12 = .ok (.iconst 1, 1) := dk_4 (dk_at dksX1_surely_0 12 rfl rfl)
theorem dX1_surely_13 : decode cX1_surely 13 = .ok (.invokevirtual 87, 3) := dk_182 0 87 (dk_at dksX1_surely_0 13 rfl rfl)
theorem dX1_surely_16 : decode cX1_surely 16 = .ok (.ireturn, 1) := dk_172 (dk_at dksX1_surely_0 16 rfl rfl)
theorem dX1_surely_17 : decode cX1_surely 17 = .ok (.aload_n 0, 1) := dk_42 (dk_at dksX1_surely_0 17 rfl rfl)
theorem dX1_surely_18 : decode cX1_surely 18 = .ok (.iconst (-1), 1) := dk_2 (dk_at dksX1_surely_0 18 rfl rfl)
theorem dX1_surely_19 : decode cX1_surely 19 = .ok (.invokevirtual 300, 3) := dk_182 1 44 (dk_at dksX1_surely_0 19 rfl rfl)
theorem dX1_surely_22 : decode cX1_surely 22 = .ok (.aload_n 0, 1) := dk_42 (dk_at dksX1_surely_0 22 rfl rfl)
theorem dX1_surely_23 : decode cX1_surely 23 = .ok (.getfield 294, 3) := dk_180 1 38 (dk_at dksX1_surely_1 0 rfl rfl)
theorem dX1_surely_26 : decode cX1_surely 26 = .ok (.ireturn, 1) := dk_172 (dk_at dksX1_surely_1 3 rfl rfl)
abbrev cX1_ask : ByteArray := prog_1_method_66_code
def yX1_ask : MethodName := ⟨RX1, "ask", "()I"⟩
def dkwX1_ask_0 : List UInt8 := [42, 182, 0, 73, 42, 180, 0, 98, 199, 0, 11, 42, 4, 182, 0, 87, 167, 0, 7, 42, 182, 1, 55, 172]
abbrev dktX1_ask_0 : List UInt8 := dkwX1_ask_0 ++ []
theorem dksX1_ask_0 : cX1_ask.data.toList.drop 0 = dktX1_ask_0 := by decide +kernel
theorem dX1_ask_0 : decode cX1_ask 0 = .ok (.aload_n 0, 1) := dk_42 (dk_at dksX1_ask_0 0 rfl rfl)
theorem dX1_ask_1 : decode cX1_ask 1 = .ok (.invokevirtual 73, 3) := dk_182 0 73 (dk_at dksX1_ask_0 1 rfl rfl)
theorem dX1_ask_4 : decode cX1_ask 4 = .ok (.aload_n 0, 1) := dk_42 (dk_at dksX1_ask_0 4 rfl rfl)
theorem dX1_ask_5 : decode cX1_ask 5 = .ok (.getfield 98, 3) := dk_180 0 98 (dk_at dksX1_ask_0 5 rfl rfl)
theorem dX1_ask_8 : decode cX1_ask 8 = .ok (.ifnonnull 11, 3) := dk_199 0 11 (dk_at dksX1_ask_0 8 rfl rfl)
theorem dX1_ask_11 : decode cX1_ask 11 = .ok (.aload_n 0, 1) := dk_42 (dk_at dksX1_ask_0 11 rfl rfl)
theorem dX1_ask_12 : decode cX1_ask 12 = .ok (.iconst 1, 1) := dk_4 (dk_at dksX1_ask_0 12 rfl rfl)
theorem dX1_ask_13 : decode cX1_ask 13 = .ok (.invokevirtual 87, 3) := dk_182 0 87 (dk_at dksX1_ask_0 13 rfl rfl)
theorem dX1_ask_16 : decode cX1_ask 16 = .ok (.goto 7, 3) := dk_167 0 7 (dk_at dksX1_ask_0 16 rfl rfl)
theorem dX1_ask_19 : decode cX1_ask 19 = .ok (.aload_n 0, 1) := dk_42 (dk_at dksX1_ask_0 19 rfl rfl)
theorem dX1_ask_20 : decode cX1_ask 20 = .ok (.invokevirtual 311, 3) := dk_182 1 55 (dk_at dksX1_ask_0 20 rfl rfl)
theorem dX1_ask_23 : decode cX1_ask 23 = .ok (.ireturn, 1) := dk_172 (dk_at dksX1_ask_0 23 rfl rfl)
abbrev cX1_askOf : ByteArray := prog_1_method_65_code
def yX1_askOf : MethodName := ⟨RX1, "askOf", "()I"⟩
def dkwX1_askOf_2 : List UInt8 := [162, 0, 5, 28, 60, 132, 2, 1, 167, 255, 214, 27, 172]
abbrev dktX1_askOf_2 : List UInt8 := dkwX1_askOf_2 ++ []
def dkwX1_askOf_1 : List UInt8 := [180, 1, 29, 158, 0, 30, 27, 16, 254, 159, 0, 16, 42, 28, 182, 1, 52, 42, 27, 182, 1, 52]
abbrev dktX1_askOf_1 : List UInt8 := dkwX1_askOf_1 ++ dktX1_askOf_2
def dkwX1_askOf_0 : List UInt8 := [42, 2, 182, 1, 44, 16, 254, 60, 3, 61, 28, 42, 180, 0, 98, 180, 1, 8, 162, 0, 37, 42]
abbrev dktX1_askOf_0 : List UInt8 := dkwX1_askOf_0 ++ dktX1_askOf_1
theorem dksX1_askOf_0 : cX1_askOf.data.toList.drop 0 = dktX1_askOf_0 := by decide +kernel
theorem dksX1_askOf_1 : cX1_askOf.data.toList.drop 22 = dktX1_askOf_1 := dk_seg dksX1_askOf_0 22 rfl rfl
theorem dksX1_askOf_2 : cX1_askOf.data.toList.drop 44 = dktX1_askOf_2 := dk_seg dksX1_askOf_1 22 rfl rfl
theorem dX1_askOf_0 : decode cX1_askOf 0 = .ok (.aload_n 0, 1) := dk_42 (dk_at dksX1_askOf_0 0 rfl rfl)
theorem dX1_askOf_1 : decode cX1_askOf 1 = .ok (.iconst (-1), 1) := dk_2 (dk_at dksX1_askOf_0 1 rfl rfl)
theorem dX1_askOf_2 : decode cX1_askOf 2 = .ok (.invokevirtual 300, 3) := dk_182 1 44 (dk_at dksX1_askOf_0 2 rfl rfl)
theorem dX1_askOf_5 : decode cX1_askOf 5 = .ok (.bipush (-2), 2) := dk_16 254 (dk_at dksX1_askOf_0 5 rfl rfl)
theorem dX1_askOf_7 : decode cX1_askOf 7 = .ok (.istore_n 1, 1) := dk_60 (dk_at dksX1_askOf_0 7 rfl rfl)
theorem dX1_askOf_8 : decode cX1_askOf 8 = .ok (.iconst 0, 1) := dk_3 (dk_at dksX1_askOf_0 8 rfl rfl)
theorem dX1_askOf_9 : decode cX1_askOf 9 = .ok (.istore_n 2, 1) := dk_61 (dk_at dksX1_askOf_0 9 rfl rfl)
theorem dX1_askOf_10 : decode cX1_askOf 10 = .ok (.iload_n 2, 1) := dk_28 (dk_at dksX1_askOf_0 10 rfl rfl)
theorem dX1_askOf_11 : decode cX1_askOf 11 = .ok (.aload_n 0, 1) := dk_42 (dk_at dksX1_askOf_0 11 rfl rfl)
theorem dX1_askOf_12 : decode cX1_askOf 12 = .ok (.getfield 98, 3) := dk_180 0 98 (dk_at dksX1_askOf_0 12 rfl rfl)
theorem dX1_askOf_15 : decode cX1_askOf 15 = .ok (.getfield 264, 3) := dk_180 1 8 (dk_at dksX1_askOf_0 15 rfl rfl)
theorem dX1_askOf_18 : decode cX1_askOf 18 = .ok (.if_icmp .ge 37, 3) := dk_162 0 37 (dk_at dksX1_askOf_0 18 rfl rfl)
theorem dX1_askOf_21 : decode cX1_askOf 21 = .ok (.aload_n 0, 1) := dk_42 (dk_at dksX1_askOf_0 21 rfl rfl)
theorem dX1_askOf_22 : decode cX1_askOf 22 = .ok (.getfield 285, 3) := dk_180 1 29 (dk_at dksX1_askOf_1 0 rfl rfl)
theorem dX1_askOf_25 : decode cX1_askOf 25 = .ok (.ifCond .le 30, 3) := dk_158 0 30 (dk_at dksX1_askOf_1 3 rfl rfl)
theorem dX1_askOf_28 : decode cX1_askOf 28 = .ok (.iload_n 1, 1) := dk_27 (dk_at dksX1_askOf_1 6 rfl rfl)
theorem dX1_askOf_29 : decode cX1_askOf 29 = .ok (.bipush (-2), 2) := dk_16 254 (dk_at dksX1_askOf_1 7 rfl rfl)
theorem dX1_askOf_31 : decode cX1_askOf 31 = .ok (.if_icmp .eq 16, 3) := dk_159 0 16 (dk_at dksX1_askOf_1 9 rfl rfl)
theorem dX1_askOf_34 : decode cX1_askOf 34 = .ok (.aload_n 0, 1) := dk_42 (dk_at dksX1_askOf_1 12 rfl rfl)
theorem dX1_askOf_35 : decode cX1_askOf 35 = .ok (.iload_n 2, 1) := dk_28 (dk_at dksX1_askOf_1 13 rfl rfl)
theorem dX1_askOf_36 : decode cX1_askOf 36 = .ok (.invokevirtual 308, 3) := dk_182 1 52 (dk_at dksX1_askOf_1 14 rfl rfl)
theorem dX1_askOf_39 : decode cX1_askOf 39 = .ok (.aload_n 0, 1) := dk_42 (dk_at dksX1_askOf_1 17 rfl rfl)
theorem dX1_askOf_40 : decode cX1_askOf 40 = .ok (.iload_n 1, 1) := dk_27 (dk_at dksX1_askOf_1 18 rfl rfl)
theorem dX1_askOf_41 : decode cX1_askOf 41 = .ok (.invokevirtual 308, 3) := dk_182 1 52 (dk_at dksX1_askOf_1 19 rfl rfl)
theorem dX1_askOf_44 : decode cX1_askOf 44 = .ok (.if_icmp .ge 5, 3) := dk_162 0 5 (dk_at dksX1_askOf_2 0 rfl rfl)
theorem dX1_askOf_47 : decode cX1_askOf 47 = .ok (.iload_n 2, 1) := dk_28 (dk_at dksX1_askOf_2 3 rfl rfl)
theorem dX1_askOf_48 : decode cX1_askOf 48 = .ok (.istore_n 1, 1) := dk_60 (dk_at dksX1_askOf_2 4 rfl rfl)
theorem dX1_askOf_49 : decode cX1_askOf 49 = .ok (.iinc 2 1, 3) := dk_132 2 1 (dk_at dksX1_askOf_2 5 rfl rfl)
theorem dX1_askOf_52 : decode cX1_askOf 52 = .ok (.goto (-42), 3) := dk_167 255 214 (dk_at dksX1_askOf_2 8 rfl rfl)
theorem dX1_askOf_55 : decode cX1_askOf 55 = .ok (.iload_n 1, 1) := dk_27 (dk_at dksX1_askOf_2 11 rfl rfl)
theorem dX1_askOf_56 : decode cX1_askOf 56 = .ok (.ireturn, 1) := dk_172 (dk_at dksX1_askOf_2 12 rfl rfl)
abbrev cX1_leaves : ByteArray := prog_1_method_64_code
def yX1_leaves : MethodName := ⟨RX1, "leaves", "(I)I"⟩
def dkwX1_leaves_0 : List UInt8 := [42, 180, 0, 67, 27, 46, 42, 180, 1, 29, 42, 180, 0, 67, 27, 46, 100, 184, 1, 47, 172]
abbrev dktX1_leaves_0 : List UInt8 := dkwX1_leaves_0 ++ []
theorem dksX1_leaves_0 : cX1_leaves.data.toList.drop 0 = dktX1_leaves_0 := by decide +kernel
theorem dX1_leaves_0 : decode cX1_leaves 0 = .ok (.aload_n 0, 1) := dk_42 (dk_at dksX1_leaves_0 0 rfl rfl)
theorem dX1_leaves_1 : decode cX1_leaves 1 = .ok (.getfield 67, 3) := dk_180 0 67 (dk_at dksX1_leaves_0 1 rfl rfl)
theorem dX1_leaves_4 : decode cX1_leaves 4 = .ok (.iload_n 1, 1) := dk_27 (dk_at dksX1_leaves_0 4 rfl rfl)
theorem dX1_leaves_5 : decode cX1_leaves 5 = .ok (.iaload, 1) := dk_46 (dk_at dksX1_leaves_0 5 rfl rfl)
theorem dX1_leaves_6 : decode cX1_leaves 6 = .ok (.aload_n 0, 1) := dk_42 (dk_at dksX1_leaves_0 6 rfl rfl)
theorem dX1_leaves_7 : decode cX1_leaves 7 = .ok (.getfield 285, 3) := dk_180 1 29 (dk_at dksX1_leaves_0 7 rfl rfl)
theorem dX1_leaves_10 : decode cX1_leaves 10 = .ok (.aload_n 0, 1) := dk_42 (dk_at dksX1_leaves_0 10 rfl rfl)
theorem dX1_leaves_11 : decode cX1_leaves 11 = .ok (.getfield 67, 3) := dk_180 0 67 (dk_at dksX1_leaves_0 11 rfl rfl)
theorem dX1_leaves_14 : decode cX1_leaves 14 = .ok (.iload_n 1, 1) := dk_27 (dk_at dksX1_leaves_0 14 rfl rfl)
theorem dX1_leaves_15 : decode cX1_leaves 15 = .ok (.iaload, 1) := dk_46 (dk_at dksX1_leaves_0 15 rfl rfl)
theorem dX1_leaves_16 : decode cX1_leaves 16 = .ok (.isub, 1) := dk_100 (dk_at dksX1_leaves_0 16 rfl rfl)
theorem dX1_leaves_17 : decode cX1_leaves 17 = .ok (.invokestatic 303, 3) := dk_184 1 47 (dk_at dksX1_leaves_0 17 rfl rfl)
theorem dX1_leaves_20 : decode cX1_leaves 20 = .ok (.ireturn, 1) := dk_172 (dk_at dksX1_leaves_0 20 rfl rfl)
abbrev cX1_askLeaves : ByteArray := prog_1_method_67_code
def yX1_askLeaves : MethodName := ⟨RX1, "askLeaves", "()I"⟩
def dkwX1_askLeaves_1 : List UInt8 := [16, 254, 160, 0, 8, 16, 254, 167, 0, 8, 42, 27, 182, 1, 52, 172]
abbrev dktX1_askLeaves_1 : List UInt8 := dkwX1_askLeaves_1 ++ []
def dkwX1_askLeaves_0 : List UInt8 := [42, 182, 0, 73, 42, 180, 0, 98, 199, 0, 9, 42, 4, 182, 0, 87, 172, 42, 182, 1, 55, 60, 27]
abbrev dktX1_askLeaves_0 : List UInt8 := dkwX1_askLeaves_0 ++ dktX1_askLeaves_1
theorem dksX1_askLeaves_0 : cX1_askLeaves.data.toList.drop 0 = dktX1_askLeaves_0 := by decide +kernel
theorem dksX1_askLeaves_1 : cX1_askLeaves.data.toList.drop 23 = dktX1_askLeaves_1 := dk_seg dksX1_askLeaves_0 23 rfl rfl
theorem dX1_askLeaves_0 : decode cX1_askLeaves 0 = .ok (.aload_n 0, 1) := dk_42 (dk_at dksX1_askLeaves_0 0 rfl rfl)
theorem dX1_askLeaves_1 : decode cX1_askLeaves 1 = .ok (.invokevirtual 73, 3) := dk_182 0 73 (dk_at dksX1_askLeaves_0 1 rfl rfl)
theorem dX1_askLeaves_4 : decode cX1_askLeaves 4 = .ok (.aload_n 0, 1) := dk_42 (dk_at dksX1_askLeaves_0 4 rfl rfl)
theorem dX1_askLeaves_5 : decode cX1_askLeaves 5 = .ok (.getfield 98, 3) := dk_180 0 98 (dk_at dksX1_askLeaves_0 5 rfl rfl)
theorem dX1_askLeaves_8 : decode cX1_askLeaves 8 = .ok (.ifnonnull 9, 3) := dk_199 0 9 (dk_at dksX1_askLeaves_0 8 rfl rfl)
theorem dX1_askLeaves_11 : decode cX1_askLeaves 11 = .ok (.aload_n 0, 1) := dk_42 (dk_at dksX1_askLeaves_0 11 rfl rfl)
theorem dX1_askLeaves_12 : decode cX1_askLeaves 12 = .ok (.iconst 1, 1) := dk_4 (dk_at dksX1_askLeaves_0 12 rfl rfl)
theorem dX1_askLeaves_13 : decode cX1_askLeaves 13 = .ok (.invokevirtual 87, 3) := dk_182 0 87 (dk_at dksX1_askLeaves_0 13 rfl rfl)
theorem dX1_askLeaves_16 : decode cX1_askLeaves 16 = .ok (.ireturn, 1) := dk_172 (dk_at dksX1_askLeaves_0 16 rfl rfl)
theorem dX1_askLeaves_17 : decode cX1_askLeaves 17 = .ok (.aload_n 0, 1) := dk_42 (dk_at dksX1_askLeaves_0 17 rfl rfl)
theorem dX1_askLeaves_18 : decode cX1_askLeaves 18 = .ok (.invokevirtual 311, 3) := dk_182 1 55 (dk_at dksX1_askLeaves_0 18 rfl rfl)
theorem dX1_askLeaves_21 : decode cX1_askLeaves 21 = .ok (.istore_n 1, 1) := dk_60 (dk_at dksX1_askLeaves_0 21 rfl rfl)
theorem dX1_askLeaves_22 : decode cX1_askLeaves 22 = .ok (.iload_n 1, 1) := dk_27 (dk_at dksX1_askLeaves_0 22 rfl rfl)
theorem dX1_askLeaves_23 : decode cX1_askLeaves 23 = .ok (.bipush (-2), 2) := dk_16 254 (dk_at dksX1_askLeaves_1 0 rfl rfl)
theorem dX1_askLeaves_25 : decode cX1_askLeaves 25 = .ok (.if_icmp .ne 8, 3) := dk_160 0 8 (dk_at dksX1_askLeaves_1 2 rfl rfl)
theorem dX1_askLeaves_28 : decode cX1_askLeaves 28 = .ok (.bipush (-2), 2) := dk_16 254 (dk_at dksX1_askLeaves_1 5 rfl rfl)
theorem dX1_askLeaves_30 : decode cX1_askLeaves 30 = .ok (.goto 8, 3) := dk_167 0 8 (dk_at dksX1_askLeaves_1 7 rfl rfl)
theorem dX1_askLeaves_33 : decode cX1_askLeaves 33 = .ok (.aload_n 0, 1) := dk_42 (dk_at dksX1_askLeaves_1 10 rfl rfl)
theorem dX1_askLeaves_34 : decode cX1_askLeaves 34 = .ok (.iload_n 1, 1) := dk_27 (dk_at dksX1_askLeaves_1 11 rfl rfl)
theorem dX1_askLeaves_35 : decode cX1_askLeaves 35 = .ok (.invokevirtual 308, 3) := dk_182 1 52 (dk_at dksX1_askLeaves_1 12 rfl rfl)
theorem dX1_askLeaves_38 : decode cX1_askLeaves 38 = .ok (.ireturn, 1) := dk_172 (dk_at dksX1_askLeaves_1 15 rfl rfl)
abbrev cX1_judge : ByteArray := prog_1_method_68_code
def yX1_judge : MethodName := ⟨RX1, "judge", "()I"⟩
def dkwX1_judge_1 : List UInt8 := [172]
abbrev dktX1_judge_1 : List UInt8 := dkwX1_judge_1 ++ []
def dkwX1_judge_0 : List UInt8 := [42, 182, 0, 73, 42, 180, 0, 98, 199, 0, 11, 42, 4, 182, 0, 87, 167, 0, 8, 42, 3, 182, 1, 41]
abbrev dktX1_judge_0 : List UInt8 := dkwX1_judge_0 ++ dktX1_judge_1
theorem dksX1_judge_0 : cX1_judge.data.toList.drop 0 = dktX1_judge_0 := by decide +kernel
theorem dksX1_judge_1 : cX1_judge.data.toList.drop 24 = dktX1_judge_1 := dk_seg dksX1_judge_0 24 rfl rfl
theorem dX1_judge_0 : decode cX1_judge 0 = .ok (.aload_n 0, 1) := dk_42 (dk_at dksX1_judge_0 0 rfl rfl)
theorem dX1_judge_1 : decode cX1_judge 1 = .ok (.invokevirtual 73, 3) := dk_182 0 73 (dk_at dksX1_judge_0 1 rfl rfl)
theorem dX1_judge_4 : decode cX1_judge 4 = .ok (.aload_n 0, 1) := dk_42 (dk_at dksX1_judge_0 4 rfl rfl)
theorem dX1_judge_5 : decode cX1_judge 5 = .ok (.getfield 98, 3) := dk_180 0 98 (dk_at dksX1_judge_0 5 rfl rfl)
theorem dX1_judge_8 : decode cX1_judge 8 = .ok (.ifnonnull 11, 3) := dk_199 0 11 (dk_at dksX1_judge_0 8 rfl rfl)
theorem dX1_judge_11 : decode cX1_judge 11 = .ok (.aload_n 0, 1) := dk_42 (dk_at dksX1_judge_0 11 rfl rfl)
theorem dX1_judge_12 : decode cX1_judge 12 = .ok (.iconst 1, 1) := dk_4 (dk_at dksX1_judge_0 12 rfl rfl)
theorem dX1_judge_13 : decode cX1_judge 13 = .ok (.invokevirtual 87, 3) := dk_182 0 87 (dk_at dksX1_judge_0 13 rfl rfl)
theorem dX1_judge_16 : decode cX1_judge 16 = .ok (.goto 8, 3) := dk_167 0 8 (dk_at dksX1_judge_0 16 rfl rfl)
theorem dX1_judge_19 : decode cX1_judge 19 = .ok (.aload_n 0, 1) := dk_42 (dk_at dksX1_judge_0 19 rfl rfl)
theorem dX1_judge_20 : decode cX1_judge 20 = .ok (.iconst 0, 1) := dk_3 (dk_at dksX1_judge_0 20 rfl rfl)
theorem dX1_judge_21 : decode cX1_judge 21 = .ok (.invokevirtual 297, 3) := dk_182 1 41 (dk_at dksX1_judge_0 21 rfl rfl)
theorem dX1_judge_24 : decode cX1_judge 24 = .ok (.ireturn, 1) := dk_172 (dk_at dksX1_judge_1 0 rfl rfl)
abbrev cX1_chat : ByteArray := prog_1_method_70_code
def yX1_chat : MethodName := ⟨RX1, "chat", "(IZZZ)I"⟩
def dkwX1_chat_2 : List UInt8 := [153, 0, 12, 27, 29, 28, 184, 1, 58, 167, 0, 9, 27, 28, 29, 184, 1, 58, 172]
abbrev dktX1_chat_2 : List UInt8 := dkwX1_chat_2 ++ []
def dkwX1_chat_1 : List UInt8 := [184, 0, 83, 182, 0, 129, 181, 0, 70, 42, 180, 0, 70, 153, 0, 8, 16, 156, 167, 0, 23, 21, 4]
abbrev dktX1_chat_1 : List UInt8 := dkwX1_chat_1 ++ dktX1_chat_2
def dkwX1_chat_0 : List UInt8 := [42, 182, 0, 73, 42, 42, 42, 180, 0, 98, 198, 0, 7, 4, 167, 0, 4, 3, 27, 3, 16, 9]
abbrev dktX1_chat_0 : List UInt8 := dkwX1_chat_0 ++ dktX1_chat_1
theorem dksX1_chat_0 : cX1_chat.data.toList.drop 0 = dktX1_chat_0 := by decide +kernel
theorem dksX1_chat_1 : cX1_chat.data.toList.drop 22 = dktX1_chat_1 := dk_seg dksX1_chat_0 22 rfl rfl
theorem dksX1_chat_2 : cX1_chat.data.toList.drop 45 = dktX1_chat_2 := dk_seg dksX1_chat_1 23 rfl rfl
theorem dX1_chat_0 : decode cX1_chat 0 = .ok (.aload_n 0, 1) := dk_42 (dk_at dksX1_chat_0 0 rfl rfl)
theorem dX1_chat_1 : decode cX1_chat 1 = .ok (.invokevirtual 73, 3) := dk_182 0 73 (dk_at dksX1_chat_0 1 rfl rfl)
theorem dX1_chat_4 : decode cX1_chat 4 = .ok (.aload_n 0, 1) := dk_42 (dk_at dksX1_chat_0 4 rfl rfl)
theorem dX1_chat_5 : decode cX1_chat 5 = .ok (.aload_n 0, 1) := dk_42 (dk_at dksX1_chat_0 5 rfl rfl)
theorem dX1_chat_6 : decode cX1_chat 6 = .ok (.aload_n 0, 1) := dk_42 (dk_at dksX1_chat_0 6 rfl rfl)
theorem dX1_chat_7 : decode cX1_chat 7 = .ok (.getfield 98, 3) := dk_180 0 98 (dk_at dksX1_chat_0 7 rfl rfl)
theorem dX1_chat_10 : decode cX1_chat 10 = .ok (.ifnull 7, 3) := dk_198 0 7 (dk_at dksX1_chat_0 10 rfl rfl)
theorem dX1_chat_13 : decode cX1_chat 13 = .ok (.iconst 1, 1) := dk_4 (dk_at dksX1_chat_0 13 rfl rfl)
theorem dX1_chat_14 : decode cX1_chat 14 = .ok (.goto 4, 3) := dk_167 0 4 (dk_at dksX1_chat_0 14 rfl rfl)
theorem dX1_chat_17 : decode cX1_chat 17 = .ok (.iconst 0, 1) := dk_3 (dk_at dksX1_chat_0 17 rfl rfl)
theorem dX1_chat_18 : decode cX1_chat 18 = .ok (.iload_n 1, 1) := dk_27 (dk_at dksX1_chat_0 18 rfl rfl)
theorem dX1_chat_19 : decode cX1_chat 19 = .ok (.iconst 0, 1) := dk_3 (dk_at dksX1_chat_0 19 rfl rfl)
theorem dX1_chat_20 : decode cX1_chat 20 = .ok (.bipush 9, 2) := dk_16 9 (dk_at dksX1_chat_0 20 rfl rfl)
theorem dX1_chat_22 : decode cX1_chat 22 = .ok (.invokestatic 83, 3) := dk_184 0 83 (dk_at dksX1_chat_1 0 rfl rfl)
theorem dX1_chat_25 : decode cX1_chat 25 = .ok (.invokevirtual 129, 3) := dk_182 0 129 (dk_at dksX1_chat_1 3 rfl rfl)
theorem dX1_chat_28 : decode cX1_chat 28 = .ok (.putfield 70, 3) := dk_181 0 70 (dk_at dksX1_chat_1 6 rfl rfl)
theorem dX1_chat_31 : decode cX1_chat 31 = .ok (.aload_n 0, 1) := dk_42 (dk_at dksX1_chat_1 9 rfl rfl)
theorem dX1_chat_32 : decode cX1_chat 32 = .ok (.getfield 70, 3) := dk_180 0 70 (dk_at dksX1_chat_1 10 rfl rfl)
theorem dX1_chat_35 : decode cX1_chat 35 = .ok (.ifCond .eq 8, 3) := dk_153 0 8 (dk_at dksX1_chat_1 13 rfl rfl)
theorem dX1_chat_38 : decode cX1_chat 38 = .ok (.bipush (-100), 2) := dk_16 156 (dk_at dksX1_chat_1 16 rfl rfl)
theorem dX1_chat_40 : decode cX1_chat 40 = .ok (.goto 23, 3) := dk_167 0 23 (dk_at dksX1_chat_1 18 rfl rfl)
theorem dX1_chat_43 : decode cX1_chat 43 = .ok (.iload 4, 2) := dk_21 4 (dk_at dksX1_chat_1 21 rfl rfl)
theorem dX1_chat_45 : decode cX1_chat 45 = .ok (.ifCond .eq 12, 3) := dk_153 0 12 (dk_at dksX1_chat_2 0 rfl rfl)
theorem dX1_chat_48 : decode cX1_chat 48 = .ok (.iload_n 1, 1) := dk_27 (dk_at dksX1_chat_2 3 rfl rfl)
theorem dX1_chat_49 : decode cX1_chat 49 = .ok (.iload_n 3, 1) := dk_29 (dk_at dksX1_chat_2 4 rfl rfl)
theorem dX1_chat_50 : decode cX1_chat 50 = .ok (.iload_n 2, 1) := dk_28 (dk_at dksX1_chat_2 5 rfl rfl)
theorem dX1_chat_51 : decode cX1_chat 51 = .ok (.invokestatic 314, 3) := dk_184 1 58 (dk_at dksX1_chat_2 6 rfl rfl)
theorem dX1_chat_54 : decode cX1_chat 54 = .ok (.goto 9, 3) := dk_167 0 9 (dk_at dksX1_chat_2 9 rfl rfl)
theorem dX1_chat_57 : decode cX1_chat 57 = .ok (.iload_n 1, 1) := dk_27 (dk_at dksX1_chat_2 12 rfl rfl)
theorem dX1_chat_58 : decode cX1_chat 58 = .ok (.iload_n 2, 1) := dk_28 (dk_at dksX1_chat_2 13 rfl rfl)
theorem dX1_chat_59 : decode cX1_chat 59 = .ok (.iload_n 3, 1) := dk_29 (dk_at dksX1_chat_2 14 rfl rfl)
theorem dX1_chat_60 : decode cX1_chat 60 = .ok (.invokestatic 314, 3) := dk_184 1 58 (dk_at dksX1_chat_2 15 rfl rfl)
theorem dX1_chat_63 : decode cX1_chat 63 = .ok (.ireturn, 1) := dk_172 (dk_at dksX1_chat_2 18 rfl rfl)
abbrev cX1_chatted : ByteArray := prog_1_method_69_code
def yX1_chatted : MethodName := ⟨RX1, "chatted", "(IZZ)I"⟩
def dkwX1_chatted_1 : List UInt8 := [167, 0, 4, 4, 172]
abbrev dktX1_chatted_1 : List UInt8 := dkwX1_chatted_1 ++ []
def dkwX1_chatted_0 : List UInt8 := [27, 153, 0, 15, 28, 153, 0, 7, 3, 167, 0, 18, 6, 167, 0, 14, 28, 153, 0, 9, 5, 26, 100]
abbrev dktX1_chatted_0 : List UInt8 := dkwX1_chatted_0 ++ dktX1_chatted_1
theorem dksX1_chatted_0 : cX1_chatted.data.toList.drop 0 = dktX1_chatted_0 := by decide +kernel
theorem dksX1_chatted_1 : cX1_chatted.data.toList.drop 23 = dktX1_chatted_1 := dk_seg dksX1_chatted_0 23 rfl rfl
theorem dX1_chatted_0 : decode cX1_chatted 0 = .ok (.iload_n 1, 1) := dk_27 (dk_at dksX1_chatted_0 0 rfl rfl)
theorem dX1_chatted_1 : decode cX1_chatted 1 = .ok (.ifCond .eq 15, 3) := dk_153 0 15 (dk_at dksX1_chatted_0 1 rfl rfl)
theorem dX1_chatted_4 : decode cX1_chatted 4 = .ok (.iload_n 2, 1) := dk_28 (dk_at dksX1_chatted_0 4 rfl rfl)
theorem dX1_chatted_5 : decode cX1_chatted 5 = .ok (.ifCond .eq 7, 3) := dk_153 0 7 (dk_at dksX1_chatted_0 5 rfl rfl)
theorem dX1_chatted_8 : decode cX1_chatted 8 = .ok (.iconst 0, 1) := dk_3 (dk_at dksX1_chatted_0 8 rfl rfl)
theorem dX1_chatted_9 : decode cX1_chatted 9 = .ok (.goto 18, 3) := dk_167 0 18 (dk_at dksX1_chatted_0 9 rfl rfl)
theorem dX1_chatted_12 : decode cX1_chatted 12 = .ok (.iconst 3, 1) := dk_6 (dk_at dksX1_chatted_0 12 rfl rfl)
theorem dX1_chatted_13 : decode cX1_chatted 13 = .ok (.goto 14, 3) := dk_167 0 14 (dk_at dksX1_chatted_0 13 rfl rfl)
theorem dX1_chatted_16 : decode cX1_chatted 16 = .ok (.iload_n 2, 1) := dk_28 (dk_at dksX1_chatted_0 16 rfl rfl)
theorem dX1_chatted_17 : decode cX1_chatted 17 = .ok (.ifCond .eq 9, 3) := dk_153 0 9 (dk_at dksX1_chatted_0 17 rfl rfl)
theorem dX1_chatted_20 : decode cX1_chatted 20 = .ok (.iconst 2, 1) := dk_5 (dk_at dksX1_chatted_0 20 rfl rfl)
theorem dX1_chatted_21 : decode cX1_chatted 21 = .ok (.iload_n 0, 1) := dk_26 (dk_at dksX1_chatted_0 21 rfl rfl)
theorem dX1_chatted_22 : decode cX1_chatted 22 = .ok (.isub, 1) := dk_100 (dk_at dksX1_chatted_0 22 rfl rfl)
theorem dX1_chatted_23 : decode cX1_chatted 23 = .ok (.goto 4, 3) := dk_167 0 4 (dk_at dksX1_chatted_1 0 rfl rfl)
theorem dX1_chatted_26 : decode cX1_chatted 26 = .ok (.iconst 1, 1) := dk_4 (dk_at dksX1_chatted_1 3 rfl rfl)
theorem dX1_chatted_27 : decode cX1_chatted 27 = .ok (.ireturn, 1) := dk_172 (dk_at dksX1_chatted_1 4 rfl rfl)
abbrev cX1_rests : ByteArray := prog_1_method_73_code
def yX1_rests : MethodName := ⟨RX1, "rests", "(I)I"⟩
def dkwX1_rests_1 : List UInt8 := [182, 0, 129, 61, 28, 153, 0, 11, 42, 28, 182, 0, 87, 167, 0, 8, 42, 27, 182, 1, 69, 172]
abbrev dktX1_rests_1 : List UInt8 := dkwX1_rests_1 ++ []
def dkwX1_rests_0 : List UInt8 := [42, 182, 0, 73, 42, 42, 180, 0, 98, 198, 0, 7, 4, 167, 0, 4, 3, 27, 3, 16, 9, 184, 0, 83]
abbrev dktX1_rests_0 : List UInt8 := dkwX1_rests_0 ++ dktX1_rests_1
theorem dksX1_rests_0 : cX1_rests.data.toList.drop 0 = dktX1_rests_0 := by decide +kernel
theorem dksX1_rests_1 : cX1_rests.data.toList.drop 24 = dktX1_rests_1 := dk_seg dksX1_rests_0 24 rfl rfl
theorem dX1_rests_0 : decode cX1_rests 0 = .ok (.aload_n 0, 1) := dk_42 (dk_at dksX1_rests_0 0 rfl rfl)
theorem dX1_rests_1 : decode cX1_rests 1 = .ok (.invokevirtual 73, 3) := dk_182 0 73 (dk_at dksX1_rests_0 1 rfl rfl)
theorem dX1_rests_4 : decode cX1_rests 4 = .ok (.aload_n 0, 1) := dk_42 (dk_at dksX1_rests_0 4 rfl rfl)
theorem dX1_rests_5 : decode cX1_rests 5 = .ok (.aload_n 0, 1) := dk_42 (dk_at dksX1_rests_0 5 rfl rfl)
theorem dX1_rests_6 : decode cX1_rests 6 = .ok (.getfield 98, 3) := dk_180 0 98 (dk_at dksX1_rests_0 6 rfl rfl)
theorem dX1_rests_9 : decode cX1_rests 9 = .ok (.ifnull 7, 3) := dk_198 0 7 (dk_at dksX1_rests_0 9 rfl rfl)
theorem dX1_rests_12 : decode cX1_rests 12 = .ok (.iconst 1, 1) := dk_4 (dk_at dksX1_rests_0 12 rfl rfl)
theorem dX1_rests_13 : decode cX1_rests 13 = .ok (.goto 4, 3) := dk_167 0 4 (dk_at dksX1_rests_0 13 rfl rfl)
theorem dX1_rests_16 : decode cX1_rests 16 = .ok (.iconst 0, 1) := dk_3 (dk_at dksX1_rests_0 16 rfl rfl)
theorem dX1_rests_17 : decode cX1_rests 17 = .ok (.iload_n 1, 1) := dk_27 (dk_at dksX1_rests_0 17 rfl rfl)
theorem dX1_rests_18 : decode cX1_rests 18 = .ok (.iconst 0, 1) := dk_3 (dk_at dksX1_rests_0 18 rfl rfl)
theorem dX1_rests_19 : decode cX1_rests 19 = .ok (.bipush 9, 2) := dk_16 9 (dk_at dksX1_rests_0 19 rfl rfl)
theorem dX1_rests_21 : decode cX1_rests 21 = .ok (.invokestatic 83, 3) := dk_184 0 83 (dk_at dksX1_rests_0 21 rfl rfl)
theorem dX1_rests_24 : decode cX1_rests 24 = .ok (.invokevirtual 129, 3) := dk_182 0 129 (dk_at dksX1_rests_1 0 rfl rfl)
theorem dX1_rests_27 : decode cX1_rests 27 = .ok (.istore_n 2, 1) := dk_61 (dk_at dksX1_rests_1 3 rfl rfl)
theorem dX1_rests_28 : decode cX1_rests 28 = .ok (.iload_n 2, 1) := dk_28 (dk_at dksX1_rests_1 4 rfl rfl)
theorem dX1_rests_29 : decode cX1_rests 29 = .ok (.ifCond .eq 11, 3) := dk_153 0 11 (dk_at dksX1_rests_1 5 rfl rfl)
theorem dX1_rests_32 : decode cX1_rests 32 = .ok (.aload_n 0, 1) := dk_42 (dk_at dksX1_rests_1 8 rfl rfl)
theorem dX1_rests_33 : decode cX1_rests 33 = .ok (.iload_n 2, 1) := dk_28 (dk_at dksX1_rests_1 9 rfl rfl)
theorem dX1_rests_34 : decode cX1_rests 34 = .ok (.invokevirtual 87, 3) := dk_182 0 87 (dk_at dksX1_rests_1 10 rfl rfl)
theorem dX1_rests_37 : decode cX1_rests 37 = .ok (.goto 8, 3) := dk_167 0 8 (dk_at dksX1_rests_1 13 rfl rfl)
theorem dX1_rests_40 : decode cX1_rests 40 = .ok (.aload_n 0, 1) := dk_42 (dk_at dksX1_rests_1 16 rfl rfl)
theorem dX1_rests_41 : decode cX1_rests 41 = .ok (.iload_n 1, 1) := dk_27 (dk_at dksX1_rests_1 17 rfl rfl)
theorem dX1_rests_42 : decode cX1_rests 42 = .ok (.invokevirtual 325, 3) := dk_182 1 69 (dk_at dksX1_rests_1 18 rfl rfl)
theorem dX1_rests_45 : decode cX1_rests 45 = .ok (.ireturn, 1) := dk_172 (dk_at dksX1_rests_1 21 rfl rfl)
abbrev cX1_seekRests : ByteArray := prog_1_method_72_code
def yX1_seekRests : MethodName := ⟨RX1, "seekRests", "(I)I"⟩
def dkwX1_seekRests_3 : List UInt8 := [132, 3, 1, 167, 255, 195, 28, 172]
abbrev dktX1_seekRests_3 : List UInt8 := dkwX1_seekRests_3 ++ []
def dkwX1_seekRests_2 : List UInt8 := [167, 0, 24, 28, 154, 0, 17, 42, 16, 10, 29, 5, 108, 104, 29, 5, 112, 96, 181, 1, 62, 132, 2, 1]
abbrev dktX1_seekRests_2 : List UInt8 := dkwX1_seekRests_2 ++ dktX1_seekRests_3
def dkwX1_seekRests_1 : List UInt8 := [167, 0, 4, 3, 29, 5, 112, 4, 160, 0, 7, 4, 167, 0, 4, 3, 184, 1, 65, 154, 0, 6]
abbrev dktX1_seekRests_1 : List UInt8 := dkwX1_seekRests_1 ++ dktX1_seekRests_2
def dkwX1_seekRests_0 : List UInt8 := [3, 61, 42, 16, 254, 181, 1, 62, 3, 62, 29, 7, 162, 0, 62, 27, 29, 4, 164, 0, 7, 4]
abbrev dktX1_seekRests_0 : List UInt8 := dkwX1_seekRests_0 ++ dktX1_seekRests_1
theorem dksX1_seekRests_0 : cX1_seekRests.data.toList.drop 0 = dktX1_seekRests_0 := by decide +kernel
theorem dksX1_seekRests_1 : cX1_seekRests.data.toList.drop 22 = dktX1_seekRests_1 := dk_seg dksX1_seekRests_0 22 rfl rfl
theorem dksX1_seekRests_2 : cX1_seekRests.data.toList.drop 44 = dktX1_seekRests_2 := dk_seg dksX1_seekRests_1 22 rfl rfl
theorem dksX1_seekRests_3 : cX1_seekRests.data.toList.drop 68 = dktX1_seekRests_3 := dk_seg dksX1_seekRests_2 24 rfl rfl
theorem dX1_seekRests_0 : decode cX1_seekRests 0 = .ok (.iconst 0, 1) := dk_3 (dk_at dksX1_seekRests_0 0 rfl rfl)
theorem dX1_seekRests_1 : decode cX1_seekRests 1 = .ok (.istore_n 2, 1) := dk_61 (dk_at dksX1_seekRests_0 1 rfl rfl)
theorem dX1_seekRests_2 : decode cX1_seekRests 2 = .ok (.aload_n 0, 1) := dk_42 (dk_at dksX1_seekRests_0 2 rfl rfl)
theorem dX1_seekRests_3 : decode cX1_seekRests 3 = .ok (.bipush (-2), 2) := dk_16 254 (dk_at dksX1_seekRests_0 3 rfl rfl)
theorem dX1_seekRests_5 : decode cX1_seekRests 5 = .ok (.putfield 318, 3) := dk_181 1 62 (dk_at dksX1_seekRests_0 5 rfl rfl)
theorem dX1_seekRests_8 : decode cX1_seekRests 8 = .ok (.iconst 0, 1) := dk_3 (dk_at dksX1_seekRests_0 8 rfl rfl)
theorem dX1_seekRests_9 : decode cX1_seekRests 9 = .ok (.istore_n 3, 1) := dk_62 (dk_at dksX1_seekRests_0 9 rfl rfl)
theorem dX1_seekRests_10 : decode cX1_seekRests 10 = .ok (.iload_n 3, 1) := dk_29 (dk_at dksX1_seekRests_0 10 rfl rfl)
theorem dX1_seekRests_11 : decode cX1_seekRests 11 = .ok (.iconst 4, 1) := dk_7 (dk_at dksX1_seekRests_0 11 rfl rfl)
theorem dX1_seekRests_12 : decode cX1_seekRests 12 = .ok (.if_icmp .ge 62, 3) := dk_162 0 62 (dk_at dksX1_seekRests_0 12 rfl rfl)
theorem dX1_seekRests_15 : decode cX1_seekRests 15 = .ok (.iload_n 1, 1) := dk_27 (dk_at dksX1_seekRests_0 15 rfl rfl)
theorem dX1_seekRests_16 : decode cX1_seekRests 16 = .ok (.iload_n 3, 1) := dk_29 (dk_at dksX1_seekRests_0 16 rfl rfl)
theorem dX1_seekRests_17 : decode cX1_seekRests 17 = .ok (.iconst 1, 1) := dk_4 (dk_at dksX1_seekRests_0 17 rfl rfl)
theorem dX1_seekRests_18 : decode cX1_seekRests 18 = .ok (.if_icmp .le 7, 3) := dk_164 0 7 (dk_at dksX1_seekRests_0 18 rfl rfl)
theorem dX1_seekRests_21 : decode cX1_seekRests 21 = .ok (.iconst 1, 1) := dk_4 (dk_at dksX1_seekRests_0 21 rfl rfl)
theorem dX1_seekRests_22 : decode cX1_seekRests 22 = .ok (.goto 4, 3) := dk_167 0 4 (dk_at dksX1_seekRests_1 0 rfl rfl)
theorem dX1_seekRests_25 : decode cX1_seekRests 25 = .ok (.iconst 0, 1) := dk_3 (dk_at dksX1_seekRests_1 3 rfl rfl)
theorem dX1_seekRests_26 : decode cX1_seekRests 26 = .ok (.iload_n 3, 1) := dk_29 (dk_at dksX1_seekRests_1 4 rfl rfl)
theorem dX1_seekRests_27 : decode cX1_seekRests 27 = .ok (.iconst 2, 1) := dk_5 (dk_at dksX1_seekRests_1 5 rfl rfl)
theorem dX1_seekRests_28 : decode cX1_seekRests 28 = .ok (.irem, 1) := dk_112 (dk_at dksX1_seekRests_1 6 rfl rfl)
theorem dX1_seekRests_29 : decode cX1_seekRests 29 = .ok (.iconst 1, 1) := dk_4 (dk_at dksX1_seekRests_1 7 rfl rfl)
theorem dX1_seekRests_30 : decode cX1_seekRests 30 = .ok (.if_icmp .ne 7, 3) := dk_160 0 7 (dk_at dksX1_seekRests_1 8 rfl rfl)
theorem dX1_seekRests_33 : decode cX1_seekRests 33 = .ok (.iconst 1, 1) := dk_4 (dk_at dksX1_seekRests_1 11 rfl rfl)
theorem dX1_seekRests_34 : decode cX1_seekRests 34 = .ok (.goto 4, 3) := dk_167 0 4 (dk_at dksX1_seekRests_1 12 rfl rfl)
theorem dX1_seekRests_37 : decode cX1_seekRests 37 = .ok (.iconst 0, 1) := dk_3 (dk_at dksX1_seekRests_1 15 rfl rfl)
theorem dX1_seekRests_38 : decode cX1_seekRests 38 = .ok (.invokestatic 321, 3) := dk_184 1 65 (dk_at dksX1_seekRests_1 16 rfl rfl)
theorem dX1_seekRests_41 : decode cX1_seekRests 41 = .ok (.ifCond .ne 6, 3) := dk_154 0 6 (dk_at dksX1_seekRests_1 19 rfl rfl)
theorem dX1_seekRests_44 : decode cX1_seekRests 44 = .ok (.goto 24, 3) := dk_167 0 24 (dk_at dksX1_seekRests_2 0 rfl rfl)
theorem dX1_seekRests_47 : decode cX1_seekRests 47 = .ok (.iload_n 2, 1) := dk_28 (dk_at dksX1_seekRests_2 3 rfl rfl)
theorem dX1_seekRests_48 : decode cX1_seekRests 48 = .ok (.ifCond .ne 17, 3) := dk_154 0 17 (dk_at dksX1_seekRests_2 4 rfl rfl)
theorem dX1_seekRests_51 : decode cX1_seekRests 51 = .ok (.aload_n 0, 1) := dk_42 (dk_at dksX1_seekRests_2 7 rfl rfl)
theorem dX1_seekRests_52 : decode cX1_seekRests 52 = .ok (.bipush 10, 2) := dk_16 10 (dk_at dksX1_seekRests_2 8 rfl rfl)
theorem dX1_seekRests_54 : decode cX1_seekRests 54 = .ok (.iload_n 3, 1) := dk_29 (dk_at dksX1_seekRests_2 10 rfl rfl)
theorem dX1_seekRests_55 : decode cX1_seekRests 55 = .ok (.iconst 2, 1) := dk_5 (dk_at dksX1_seekRests_2 11 rfl rfl)
theorem dX1_seekRests_56 : decode cX1_seekRests 56 = .ok (.idiv, 1) := dk_108 (dk_at dksX1_seekRests_2 12 rfl rfl)
theorem dX1_seekRests_57 : decode cX1_seekRests 57 = .ok (.imul, 1) := dk_104 (dk_at dksX1_seekRests_2 13 rfl rfl)
theorem dX1_seekRests_58 : decode cX1_seekRests 58 = .ok (.iload_n 3, 1) := dk_29 (dk_at dksX1_seekRests_2 14 rfl rfl)
theorem dX1_seekRests_59 : decode cX1_seekRests 59 = .ok (.iconst 2, 1) := dk_5 (dk_at dksX1_seekRests_2 15 rfl rfl)
theorem dX1_seekRests_60 : decode cX1_seekRests 60 = .ok (.irem, 1) := dk_112 (dk_at dksX1_seekRests_2 16 rfl rfl)
theorem dX1_seekRests_61 : decode cX1_seekRests 61 = .ok (.iadd, 1) := dk_96 (dk_at dksX1_seekRests_2 17 rfl rfl)
theorem dX1_seekRests_62 : decode cX1_seekRests 62 = .ok (.putfield 318, 3) := dk_181 1 62 (dk_at dksX1_seekRests_2 18 rfl rfl)
theorem dX1_seekRests_65 : decode cX1_seekRests 65 = .ok (.iinc 2 1, 3) := dk_132 2 1 (dk_at dksX1_seekRests_2 21 rfl rfl)
theorem dX1_seekRests_68 : decode cX1_seekRests 68 = .ok (.iinc 3 1, 3) := dk_132 3 1 (dk_at dksX1_seekRests_3 0 rfl rfl)
theorem dX1_seekRests_71 : decode cX1_seekRests 71 = .ok (.goto (-61), 3) := dk_167 255 195 (dk_at dksX1_seekRests_3 3 rfl rfl)
theorem dX1_seekRests_74 : decode cX1_seekRests 74 = .ok (.iload_n 2, 1) := dk_28 (dk_at dksX1_seekRests_3 6 rfl rfl)
theorem dX1_seekRests_75 : decode cX1_seekRests 75 = .ok (.ireturn, 1) := dk_172 (dk_at dksX1_seekRests_3 7 rfl rfl)
abbrev cX1_isRest : ByteArray := prog_1_method_71_code
def yX1_isRest : MethodName := ⟨RX1, "isRest", "(IZZ)Z"⟩
def dkwX1_isRest_2 : List UInt8 := [167, 0, 4, 3, 172]
abbrev dktX1_isRest_2 : List UInt8 := dkwX1_isRest_2 ++ []
def dkwX1_isRest_1 : List UInt8 := [28, 154, 0, 7, 4, 167, 0, 4, 3, 27, 184, 1, 58, 26, 28, 27, 184, 1, 58, 163, 0, 7, 4]
abbrev dktX1_isRest_1 : List UInt8 := dkwX1_isRest_1 ++ dktX1_isRest_2
def dkwX1_isRest_0 : List UInt8 := [26, 27, 154, 0, 7, 4, 167, 0, 4, 3, 28, 184, 1, 58, 26, 27, 28, 184, 1, 58, 163, 0, 30, 26]
abbrev dktX1_isRest_0 : List UInt8 := dkwX1_isRest_0 ++ dktX1_isRest_1
theorem dksX1_isRest_0 : cX1_isRest.data.toList.drop 0 = dktX1_isRest_0 := by decide +kernel
theorem dksX1_isRest_1 : cX1_isRest.data.toList.drop 24 = dktX1_isRest_1 := dk_seg dksX1_isRest_0 24 rfl rfl
theorem dksX1_isRest_2 : cX1_isRest.data.toList.drop 47 = dktX1_isRest_2 := dk_seg dksX1_isRest_1 23 rfl rfl
theorem dX1_isRest_0 : decode cX1_isRest 0 = .ok (.iload_n 0, 1) := dk_26 (dk_at dksX1_isRest_0 0 rfl rfl)
theorem dX1_isRest_1 : decode cX1_isRest 1 = .ok (.iload_n 1, 1) := dk_27 (dk_at dksX1_isRest_0 1 rfl rfl)
theorem dX1_isRest_2 : decode cX1_isRest 2 = .ok (.ifCond .ne 7, 3) := dk_154 0 7 (dk_at dksX1_isRest_0 2 rfl rfl)
theorem dX1_isRest_5 : decode cX1_isRest 5 = .ok (.iconst 1, 1) := dk_4 (dk_at dksX1_isRest_0 5 rfl rfl)
theorem dX1_isRest_6 : decode cX1_isRest 6 = .ok (.goto 4, 3) := dk_167 0 4 (dk_at dksX1_isRest_0 6 rfl rfl)
theorem dX1_isRest_9 : decode cX1_isRest 9 = .ok (.iconst 0, 1) := dk_3 (dk_at dksX1_isRest_0 9 rfl rfl)
theorem dX1_isRest_10 : decode cX1_isRest 10 = .ok (.iload_n 2, 1) := dk_28 (dk_at dksX1_isRest_0 10 rfl rfl)
theorem dX1_isRest_11 : decode cX1_isRest 11 = .ok (.invokestatic 314, 3) := dk_184 1 58 (dk_at dksX1_isRest_0 11 rfl rfl)
theorem dX1_isRest_14 : decode cX1_isRest 14 = .ok (.iload_n 0, 1) := dk_26 (dk_at dksX1_isRest_0 14 rfl rfl)
theorem dX1_isRest_15 : decode cX1_isRest 15 = .ok (.iload_n 1, 1) := dk_27 (dk_at dksX1_isRest_0 15 rfl rfl)
theorem dX1_isRest_16 : decode cX1_isRest 16 = .ok (.iload_n 2, 1) := dk_28 (dk_at dksX1_isRest_0 16 rfl rfl)
theorem dX1_isRest_17 : decode cX1_isRest 17 = .ok (.invokestatic 314, 3) := dk_184 1 58 (dk_at dksX1_isRest_0 17 rfl rfl)
theorem dX1_isRest_20 : decode cX1_isRest 20 = .ok (.if_icmp .gt 30, 3) := dk_163 0 30 (dk_at dksX1_isRest_0 20 rfl rfl)
theorem dX1_isRest_23 : decode cX1_isRest 23 = .ok (.iload_n 0, 1) := dk_26 (dk_at dksX1_isRest_0 23 rfl rfl)
theorem dX1_isRest_24 : decode cX1_isRest 24 = .ok (.iload_n 2, 1) := dk_28 (dk_at dksX1_isRest_1 0 rfl rfl)
theorem dX1_isRest_25 : decode cX1_isRest 25 = .ok (.ifCond .ne 7, 3) := dk_154 0 7 (dk_at dksX1_isRest_1 1 rfl rfl)
theorem dX1_isRest_28 : decode cX1_isRest 28 = .ok (.iconst 1, 1) := dk_4 (dk_at dksX1_isRest_1 4 rfl rfl)
theorem dX1_isRest_29 : decode cX1_isRest 29 = .ok (.goto 4, 3) := dk_167 0 4 (dk_at dksX1_isRest_1 5 rfl rfl)
theorem dX1_isRest_32 : decode cX1_isRest 32 = .ok (.iconst 0, 1) := dk_3 (dk_at dksX1_isRest_1 8 rfl rfl)
theorem dX1_isRest_33 : decode cX1_isRest 33 = .ok (.iload_n 1, 1) := dk_27 (dk_at dksX1_isRest_1 9 rfl rfl)
theorem dX1_isRest_34 : decode cX1_isRest 34 = .ok (.invokestatic 314, 3) := dk_184 1 58 (dk_at dksX1_isRest_1 10 rfl rfl)
theorem dX1_isRest_37 : decode cX1_isRest 37 = .ok (.iload_n 0, 1) := dk_26 (dk_at dksX1_isRest_1 13 rfl rfl)
theorem dX1_isRest_38 : decode cX1_isRest 38 = .ok (.iload_n 2, 1) := dk_28 (dk_at dksX1_isRest_1 14 rfl rfl)
theorem dX1_isRest_39 : decode cX1_isRest 39 = .ok (.iload_n 1, 1) := dk_27 (dk_at dksX1_isRest_1 15 rfl rfl)
theorem dX1_isRest_40 : decode cX1_isRest 40 = .ok (.invokestatic 314, 3) := dk_184 1 58 (dk_at dksX1_isRest_1 16 rfl rfl)
theorem dX1_isRest_43 : decode cX1_isRest 43 = .ok (.if_icmp .gt 7, 3) := dk_163 0 7 (dk_at dksX1_isRest_1 19 rfl rfl)
theorem dX1_isRest_46 : decode cX1_isRest 46 = .ok (.iconst 1, 1) := dk_4 (dk_at dksX1_isRest_1 22 rfl rfl)
theorem dX1_isRest_47 : decode cX1_isRest 47 = .ok (.goto 4, 3) := dk_167 0 4 (dk_at dksX1_isRest_2 0 rfl rfl)
theorem dX1_isRest_50 : decode cX1_isRest 50 = .ok (.iconst 0, 1) := dk_3 (dk_at dksX1_isRest_2 3 rfl rfl)
theorem dX1_isRest_51 : decode cX1_isRest 51 = .ok (.ireturn, 1) := dk_172 (dk_at dksX1_isRest_2 4 rfl rfl)
abbrev cX1_rest : ByteArray := prog_1_method_74_code
def yX1_rest : MethodName := ⟨RX1, "rest", "(I)I"⟩
def dkwX1_rest_2 : List UInt8 := [172]
abbrev dktX1_rest_2 : List UInt8 := dkwX1_rest_2 ++ []
def dkwX1_rest_1 : List UInt8 := [182, 0, 129, 61, 28, 153, 0, 9, 42, 28, 182, 0, 87, 172, 42, 27, 182, 1, 69, 87, 42, 180, 1, 62]
abbrev dktX1_rest_1 : List UInt8 := dkwX1_rest_1 ++ dktX1_rest_2
def dkwX1_rest_0 : List UInt8 := [42, 182, 0, 73, 42, 42, 180, 0, 98, 198, 0, 7, 4, 167, 0, 4, 3, 27, 3, 16, 9, 184, 0, 83]
abbrev dktX1_rest_0 : List UInt8 := dkwX1_rest_0 ++ dktX1_rest_1
theorem dksX1_rest_0 : cX1_rest.data.toList.drop 0 = dktX1_rest_0 := by decide +kernel
theorem dksX1_rest_1 : cX1_rest.data.toList.drop 24 = dktX1_rest_1 := dk_seg dksX1_rest_0 24 rfl rfl
theorem dksX1_rest_2 : cX1_rest.data.toList.drop 48 = dktX1_rest_2 := dk_seg dksX1_rest_1 24 rfl rfl
theorem dX1_rest_0 : decode cX1_rest 0 = .ok (.aload_n 0, 1) := dk_42 (dk_at dksX1_rest_0 0 rfl rfl)
theorem dX1_rest_1 : decode cX1_rest 1 = .ok (.invokevirtual 73, 3) := dk_182 0 73 (dk_at dksX1_rest_0 1 rfl rfl)
theorem dX1_rest_4 : decode cX1_rest 4 = .ok (.aload_n 0, 1) := dk_42 (dk_at dksX1_rest_0 4 rfl rfl)
theorem dX1_rest_5 : decode cX1_rest 5 = .ok (.aload_n 0, 1) := dk_42 (dk_at dksX1_rest_0 5 rfl rfl)
theorem dX1_rest_6 : decode cX1_rest 6 = .ok (.getfield 98, 3) := dk_180 0 98 (dk_at dksX1_rest_0 6 rfl rfl)
theorem dX1_rest_9 : decode cX1_rest 9 = .ok (.ifnull 7, 3) := dk_198 0 7 (dk_at dksX1_rest_0 9 rfl rfl)
theorem dX1_rest_12 : decode cX1_rest 12 = .ok (.iconst 1, 1) := dk_4 (dk_at dksX1_rest_0 12 rfl rfl)
theorem dX1_rest_13 : decode cX1_rest 13 = .ok (.goto 4, 3) := dk_167 0 4 (dk_at dksX1_rest_0 13 rfl rfl)
theorem dX1_rest_16 : decode cX1_rest 16 = .ok (.iconst 0, 1) := dk_3 (dk_at dksX1_rest_0 16 rfl rfl)
theorem dX1_rest_17 : decode cX1_rest 17 = .ok (.iload_n 1, 1) := dk_27 (dk_at dksX1_rest_0 17 rfl rfl)
theorem dX1_rest_18 : decode cX1_rest 18 = .ok (.iconst 0, 1) := dk_3 (dk_at dksX1_rest_0 18 rfl rfl)
theorem dX1_rest_19 : decode cX1_rest 19 = .ok (.bipush 9, 2) := dk_16 9 (dk_at dksX1_rest_0 19 rfl rfl)
theorem dX1_rest_21 : decode cX1_rest 21 = .ok (.invokestatic 83, 3) := dk_184 0 83 (dk_at dksX1_rest_0 21 rfl rfl)
theorem dX1_rest_24 : decode cX1_rest 24 = .ok (.invokevirtual 129, 3) := dk_182 0 129 (dk_at dksX1_rest_1 0 rfl rfl)
theorem dX1_rest_27 : decode cX1_rest 27 = .ok (.istore_n 2, 1) := dk_61 (dk_at dksX1_rest_1 3 rfl rfl)
theorem dX1_rest_28 : decode cX1_rest 28 = .ok (.iload_n 2, 1) := dk_28 (dk_at dksX1_rest_1 4 rfl rfl)
theorem dX1_rest_29 : decode cX1_rest 29 = .ok (.ifCond .eq 9, 3) := dk_153 0 9 (dk_at dksX1_rest_1 5 rfl rfl)
theorem dX1_rest_32 : decode cX1_rest 32 = .ok (.aload_n 0, 1) := dk_42 (dk_at dksX1_rest_1 8 rfl rfl)
theorem dX1_rest_33 : decode cX1_rest 33 = .ok (.iload_n 2, 1) := dk_28 (dk_at dksX1_rest_1 9 rfl rfl)
theorem dX1_rest_34 : decode cX1_rest 34 = .ok (.invokevirtual 87, 3) := dk_182 0 87 (dk_at dksX1_rest_1 10 rfl rfl)
theorem dX1_rest_37 : decode cX1_rest 37 = .ok (.ireturn, 1) := dk_172 (dk_at dksX1_rest_1 13 rfl rfl)
theorem dX1_rest_38 : decode cX1_rest 38 = .ok (.aload_n 0, 1) := dk_42 (dk_at dksX1_rest_1 14 rfl rfl)
theorem dX1_rest_39 : decode cX1_rest 39 = .ok (.iload_n 1, 1) := dk_27 (dk_at dksX1_rest_1 15 rfl rfl)
theorem dX1_rest_40 : decode cX1_rest 40 = .ok (.invokevirtual 325, 3) := dk_182 1 69 (dk_at dksX1_rest_1 16 rfl rfl)
theorem dX1_rest_43 : decode cX1_rest 43 = .ok (.pop, 1) := dk_87 (dk_at dksX1_rest_1 19 rfl rfl)
theorem dX1_rest_44 : decode cX1_rest 44 = .ok (.aload_n 0, 1) := dk_42 (dk_at dksX1_rest_1 20 rfl rfl)
theorem dX1_rest_45 : decode cX1_rest 45 = .ok (.getfield 318, 3) := dk_180 1 62 (dk_at dksX1_rest_1 21 rfl rfl)
theorem dX1_rest_48 : decode cX1_rest 48 = .ok (.ireturn, 1) := dk_172 (dk_at dksX1_rest_2 0 rfl rfl)
abbrev cX1_odds : ByteArray := prog_1_method_75_code
def yX1_odds : MethodName := ⟨RX1, "odds", "(IIZ)J"⟩
def dkwX1_odds_3 : List UInt8 := [180, 0, 98, 180, 1, 72, 167, 0, 4, 3, 96, 133, 55, 5, 22, 5, 20, 1, 75, 29, 184, 1, 77, 173]
abbrev dktX1_odds_3 : List UInt8 := dkwX1_odds_3 ++ []
def dkwX1_odds_2 : List UInt8 := [180, 1, 72, 100, 167, 0, 4, 3, 42, 180, 0, 33, 27, 28, 4, 182, 0, 202, 153, 0, 13, 42]
abbrev dktX1_odds_2 : List UInt8 := dkwX1_odds_2 ++ dktX1_odds_3
def dkwX1_odds_1 : List UInt8 := [182, 0, 87, 133, 173, 42, 180, 0, 33, 27, 28, 3, 182, 0, 202, 153, 0, 16, 16, 100, 42, 180, 0, 98]
abbrev dktX1_odds_1 : List UInt8 := dkwX1_odds_1 ++ dktX1_odds_2
def dkwX1_odds_0 : List UInt8 := [42, 182, 0, 73, 42, 42, 27, 182, 0, 150, 28, 182, 0, 178, 54, 4, 21, 4, 153, 0, 11, 42, 21, 4]
abbrev dktX1_odds_0 : List UInt8 := dkwX1_odds_0 ++ dktX1_odds_1
theorem dksX1_odds_0 : cX1_odds.data.toList.drop 0 = dktX1_odds_0 := by decide +kernel
theorem dksX1_odds_1 : cX1_odds.data.toList.drop 24 = dktX1_odds_1 := dk_seg dksX1_odds_0 24 rfl rfl
theorem dksX1_odds_2 : cX1_odds.data.toList.drop 48 = dktX1_odds_2 := dk_seg dksX1_odds_1 24 rfl rfl
theorem dksX1_odds_3 : cX1_odds.data.toList.drop 70 = dktX1_odds_3 := dk_seg dksX1_odds_2 22 rfl rfl
theorem dX1_odds_0 : decode cX1_odds 0 = .ok (.aload_n 0, 1) := dk_42 (dk_at dksX1_odds_0 0 rfl rfl)
theorem dX1_odds_1 : decode cX1_odds 1 = .ok (.invokevirtual 73, 3) := dk_182 0 73 (dk_at dksX1_odds_0 1 rfl rfl)
theorem dX1_odds_4 : decode cX1_odds 4 = .ok (.aload_n 0, 1) := dk_42 (dk_at dksX1_odds_0 4 rfl rfl)
theorem dX1_odds_5 : decode cX1_odds 5 = .ok (.aload_n 0, 1) := dk_42 (dk_at dksX1_odds_0 5 rfl rfl)
theorem dX1_odds_6 : decode cX1_odds 6 = .ok (.iload_n 1, 1) := dk_27 (dk_at dksX1_odds_0 6 rfl rfl)
theorem dX1_odds_7 : decode cX1_odds 7 = .ok (.invokevirtual 150, 3) := dk_182 0 150 (dk_at dksX1_odds_0 7 rfl rfl)
theorem dX1_odds_10 : decode cX1_odds 10 = .ok (.iload_n 2, 1) := dk_28 (dk_at dksX1_odds_0 10 rfl rfl)
theorem dX1_odds_11 : decode cX1_odds 11 = .ok (.invokevirtual 178, 3) := dk_182 0 178 (dk_at dksX1_odds_0 11 rfl rfl)
theorem dX1_odds_14 : decode cX1_odds 14 = .ok (.istore 4, 2) := dk_54 4 (dk_at dksX1_odds_0 14 rfl rfl)
theorem dX1_odds_16 : decode cX1_odds 16 = .ok (.iload 4, 2) := dk_21 4 (dk_at dksX1_odds_0 16 rfl rfl)
theorem dX1_odds_18 : decode cX1_odds 18 = .ok (.ifCond .eq 11, 3) := dk_153 0 11 (dk_at dksX1_odds_0 18 rfl rfl)
theorem dX1_odds_21 : decode cX1_odds 21 = .ok (.aload_n 0, 1) := dk_42 (dk_at dksX1_odds_0 21 rfl rfl)
theorem dX1_odds_22 : decode cX1_odds 22 = .ok (.iload 4, 2) := dk_21 4 (dk_at dksX1_odds_0 22 rfl rfl)
theorem dX1_odds_24 : decode cX1_odds 24 = .ok (.invokevirtual 87, 3) := dk_182 0 87 (dk_at dksX1_odds_1 0 rfl rfl)
theorem dX1_odds_27 : decode cX1_odds 27 = .ok (.i2l, 1) := dk_133 (dk_at dksX1_odds_1 3 rfl rfl)
theorem dX1_odds_28 : decode cX1_odds 28 = .ok (.lreturn, 1) := dk_173 (dk_at dksX1_odds_1 4 rfl rfl)
theorem dX1_odds_29 : decode cX1_odds 29 = .ok (.aload_n 0, 1) := dk_42 (dk_at dksX1_odds_1 5 rfl rfl)
theorem dX1_odds_30 : decode cX1_odds 30 = .ok (.getfield 33, 3) := dk_180 0 33 (dk_at dksX1_odds_1 6 rfl rfl)
theorem dX1_odds_33 : decode cX1_odds 33 = .ok (.iload_n 1, 1) := dk_27 (dk_at dksX1_odds_1 9 rfl rfl)
theorem dX1_odds_34 : decode cX1_odds 34 = .ok (.iload_n 2, 1) := dk_28 (dk_at dksX1_odds_1 10 rfl rfl)
theorem dX1_odds_35 : decode cX1_odds 35 = .ok (.iconst 0, 1) := dk_3 (dk_at dksX1_odds_1 11 rfl rfl)
theorem dX1_odds_36 : decode cX1_odds 36 = .ok (.invokevirtual 202, 3) := dk_182 0 202 (dk_at dksX1_odds_1 12 rfl rfl)
theorem dX1_odds_39 : decode cX1_odds 39 = .ok (.ifCond .eq 16, 3) := dk_153 0 16 (dk_at dksX1_odds_1 15 rfl rfl)
theorem dX1_odds_42 : decode cX1_odds 42 = .ok (.bipush 100, 2) := dk_16 100 (dk_at dksX1_odds_1 18 rfl rfl)
theorem dX1_odds_44 : decode cX1_odds 44 = .ok (.aload_n 0, 1) := dk_42 (dk_at dksX1_odds_1 20 rfl rfl)
theorem dX1_odds_45 : decode cX1_odds 45 = .ok (.getfield 98, 3) := dk_180 0 98 (dk_at dksX1_odds_1 21 rfl rfl)
theorem dX1_odds_48 : decode cX1_odds 48 = .ok (.getfield 328, 3) := dk_180 1 72 (dk_at dksX1_odds_2 0 rfl rfl)
theorem dX1_odds_51 : decode cX1_odds 51 = .ok (.isub, 1) := dk_100 (dk_at dksX1_odds_2 3 rfl rfl)
theorem dX1_odds_52 : decode cX1_odds 52 = .ok (.goto 4, 3) := dk_167 0 4 (dk_at dksX1_odds_2 4 rfl rfl)
theorem dX1_odds_55 : decode cX1_odds 55 = .ok (.iconst 0, 1) := dk_3 (dk_at dksX1_odds_2 7 rfl rfl)
theorem dX1_odds_56 : decode cX1_odds 56 = .ok (.aload_n 0, 1) := dk_42 (dk_at dksX1_odds_2 8 rfl rfl)
theorem dX1_odds_57 : decode cX1_odds 57 = .ok (.getfield 33, 3) := dk_180 0 33 (dk_at dksX1_odds_2 9 rfl rfl)
theorem dX1_odds_60 : decode cX1_odds 60 = .ok (.iload_n 1, 1) := dk_27 (dk_at dksX1_odds_2 12 rfl rfl)
theorem dX1_odds_61 : decode cX1_odds 61 = .ok (.iload_n 2, 1) := dk_28 (dk_at dksX1_odds_2 13 rfl rfl)
theorem dX1_odds_62 : decode cX1_odds 62 = .ok (.iconst 1, 1) := dk_4 (dk_at dksX1_odds_2 14 rfl rfl)
theorem dX1_odds_63 : decode cX1_odds 63 = .ok (.invokevirtual 202, 3) := dk_182 0 202 (dk_at dksX1_odds_2 15 rfl rfl)
theorem dX1_odds_66 : decode cX1_odds 66 = .ok (.ifCond .eq 13, 3) := dk_153 0 13 (dk_at dksX1_odds_2 18 rfl rfl)
theorem dX1_odds_69 : decode cX1_odds 69 = .ok (.aload_n 0, 1) := dk_42 (dk_at dksX1_odds_2 21 rfl rfl)
theorem dX1_odds_70 : decode cX1_odds 70 = .ok (.getfield 98, 3) := dk_180 0 98 (dk_at dksX1_odds_3 0 rfl rfl)
theorem dX1_odds_73 : decode cX1_odds 73 = .ok (.getfield 328, 3) := dk_180 1 72 (dk_at dksX1_odds_3 3 rfl rfl)
theorem dX1_odds_76 : decode cX1_odds 76 = .ok (.goto 4, 3) := dk_167 0 4 (dk_at dksX1_odds_3 6 rfl rfl)
theorem dX1_odds_79 : decode cX1_odds 79 = .ok (.iconst 0, 1) := dk_3 (dk_at dksX1_odds_3 9 rfl rfl)
theorem dX1_odds_80 : decode cX1_odds 80 = .ok (.iadd, 1) := dk_96 (dk_at dksX1_odds_3 10 rfl rfl)
theorem dX1_odds_81 : decode cX1_odds 81 = .ok (.i2l, 1) := dk_133 (dk_at dksX1_odds_3 11 rfl rfl)
theorem dX1_odds_82 : decode cX1_odds 82 = .ok (.lstore 5, 2) := dk_55 5 (dk_at dksX1_odds_3 12 rfl rfl)
theorem dX1_odds_84 : decode cX1_odds 84 = .ok (.lload 5, 2) := dk_22 5 (dk_at dksX1_odds_3 14 rfl rfl)
theorem dX1_odds_86 : decode cX1_odds 86 = .ok (.ldc2_w 331, 3) := dk_20 1 75 (dk_at dksX1_odds_3 16 rfl rfl)
theorem dX1_odds_89 : decode cX1_odds 89 = .ok (.iload_n 3, 1) := dk_29 (dk_at dksX1_odds_3 19 rfl rfl)
theorem dX1_odds_90 : decode cX1_odds 90 = .ok (.invokestatic 333, 3) := dk_184 1 77 (dk_at dksX1_odds_3 20 rfl rfl)
theorem dX1_odds_93 : decode cX1_odds 93 = .ok (.lreturn, 1) := dk_173 (dk_at dksX1_odds_3 23 rfl rfl)
abbrev cX1_lowest : ByteArray := prog_1_method_5_code
def yX1_lowest : MethodName := ⟨RX1, "lowest", "(JJZ)J"⟩
def dkwX1_lowest_0 : List UInt8 := [21, 4, 153, 0, 7, 32, 167, 0, 4, 30, 32, 30, 184, 0, 1, 109, 173]
abbrev dktX1_lowest_0 : List UInt8 := dkwX1_lowest_0 ++ []
theorem dksX1_lowest_0 : cX1_lowest.data.toList.drop 0 = dktX1_lowest_0 := by decide +kernel
theorem dX1_lowest_0 : decode cX1_lowest 0 = .ok (.iload 4, 2) := dk_21 4 (dk_at dksX1_lowest_0 0 rfl rfl)
theorem dX1_lowest_2 : decode cX1_lowest 2 = .ok (.ifCond .eq 7, 3) := dk_153 0 7 (dk_at dksX1_lowest_0 2 rfl rfl)
theorem dX1_lowest_5 : decode cX1_lowest 5 = .ok (.lload_n 2, 1) := dk_32 (dk_at dksX1_lowest_0 5 rfl rfl)
theorem dX1_lowest_6 : decode cX1_lowest 6 = .ok (.goto 4, 3) := dk_167 0 4 (dk_at dksX1_lowest_0 6 rfl rfl)
theorem dX1_lowest_9 : decode cX1_lowest 9 = .ok (.lload_n 0, 1) := dk_30 (dk_at dksX1_lowest_0 9 rfl rfl)
theorem dX1_lowest_10 : decode cX1_lowest 10 = .ok (.lload_n 2, 1) := dk_32 (dk_at dksX1_lowest_0 10 rfl rfl)
theorem dX1_lowest_11 : decode cX1_lowest 11 = .ok (.lload_n 0, 1) := dk_30 (dk_at dksX1_lowest_0 11 rfl rfl)
theorem dX1_lowest_12 : decode cX1_lowest 12 = .ok (.invokestatic 1, 3) := dk_184 0 1 (dk_at dksX1_lowest_0 12 rfl rfl)
theorem dX1_lowest_15 : decode cX1_lowest 15 = .ok (.ldiv, 1) := dk_109 (dk_at dksX1_lowest_0 15 rfl rfl)
theorem dX1_lowest_16 : decode cX1_lowest 16 = .ok (.lreturn, 1) := dk_173 (dk_at dksX1_lowest_0 16 rfl rfl)
abbrev cX1_most : ByteArray := prog_1_method_77_code
def yX1_most : MethodName := ⟨RX1, "most", "(IIZ)J"⟩
def dkwX1_most_3 : List UInt8 := [42, 180, 1, 81, 29, 184, 1, 77, 173]
abbrev dktX1_most_3 : List UInt8 := dkwX1_most_3 ++ []
def dkwX1_most_2 : List UInt8 := [21, 4, 153, 0, 11, 42, 21, 4, 182, 0, 87, 133, 173, 42, 27, 2, 28, 182, 1, 91, 42, 180, 1, 85]
abbrev dktX1_most_2 : List UInt8 := dkwX1_most_2 ++ dktX1_most_3
def dkwX1_most_1 : List UInt8 := [153, 0, 17, 28, 3, 16, 99, 184, 0, 83, 153, 0, 7, 4, 167, 0, 4, 3, 182, 0, 129, 54, 4]
abbrev dktX1_most_1 : List UInt8 := dkwX1_most_1 ++ dktX1_most_2
def dkwX1_most_0 : List UInt8 := [42, 182, 0, 73, 42, 42, 180, 0, 98, 198, 0, 7, 4, 167, 0, 4, 3, 27, 3, 16, 6, 184, 0, 83]
abbrev dktX1_most_0 : List UInt8 := dkwX1_most_0 ++ dktX1_most_1
theorem dksX1_most_0 : cX1_most.data.toList.drop 0 = dktX1_most_0 := by decide +kernel
theorem dksX1_most_1 : cX1_most.data.toList.drop 24 = dktX1_most_1 := dk_seg dksX1_most_0 24 rfl rfl
theorem dksX1_most_2 : cX1_most.data.toList.drop 47 = dktX1_most_2 := dk_seg dksX1_most_1 23 rfl rfl
theorem dksX1_most_3 : cX1_most.data.toList.drop 71 = dktX1_most_3 := dk_seg dksX1_most_2 24 rfl rfl
theorem dX1_most_0 : decode cX1_most 0 = .ok (.aload_n 0, 1) := dk_42 (dk_at dksX1_most_0 0 rfl rfl)
theorem dX1_most_1 : decode cX1_most 1 = .ok (.invokevirtual 73, 3) := dk_182 0 73 (dk_at dksX1_most_0 1 rfl rfl)
theorem dX1_most_4 : decode cX1_most 4 = .ok (.aload_n 0, 1) := dk_42 (dk_at dksX1_most_0 4 rfl rfl)
theorem dX1_most_5 : decode cX1_most 5 = .ok (.aload_n 0, 1) := dk_42 (dk_at dksX1_most_0 5 rfl rfl)
theorem dX1_most_6 : decode cX1_most 6 = .ok (.getfield 98, 3) := dk_180 0 98 (dk_at dksX1_most_0 6 rfl rfl)
theorem dX1_most_9 : decode cX1_most 9 = .ok (.ifnull 7, 3) := dk_198 0 7 (dk_at dksX1_most_0 9 rfl rfl)
theorem dX1_most_12 : decode cX1_most 12 = .ok (.iconst 1, 1) := dk_4 (dk_at dksX1_most_0 12 rfl rfl)
theorem dX1_most_13 : decode cX1_most 13 = .ok (.goto 4, 3) := dk_167 0 4 (dk_at dksX1_most_0 13 rfl rfl)
theorem dX1_most_16 : decode cX1_most 16 = .ok (.iconst 0, 1) := dk_3 (dk_at dksX1_most_0 16 rfl rfl)
theorem dX1_most_17 : decode cX1_most 17 = .ok (.iload_n 1, 1) := dk_27 (dk_at dksX1_most_0 17 rfl rfl)
theorem dX1_most_18 : decode cX1_most 18 = .ok (.iconst 0, 1) := dk_3 (dk_at dksX1_most_0 18 rfl rfl)
theorem dX1_most_19 : decode cX1_most 19 = .ok (.bipush 6, 2) := dk_16 6 (dk_at dksX1_most_0 19 rfl rfl)
theorem dX1_most_21 : decode cX1_most 21 = .ok (.invokestatic 83, 3) := dk_184 0 83 (dk_at dksX1_most_0 21 rfl rfl)
theorem dX1_most_24 : decode cX1_most 24 = .ok (.ifCond .eq 17, 3) := dk_153 0 17 (dk_at dksX1_most_1 0 rfl rfl)
theorem dX1_most_27 : decode cX1_most 27 = .ok (.iload_n 2, 1) := dk_28 (dk_at dksX1_most_1 3 rfl rfl)
theorem dX1_most_28 : decode cX1_most 28 = .ok (.iconst 0, 1) := dk_3 (dk_at dksX1_most_1 4 rfl rfl)
theorem dX1_most_29 : decode cX1_most 29 = .ok (.bipush 99, 2) := dk_16 99 (dk_at dksX1_most_1 5 rfl rfl)
theorem dX1_most_31 : decode cX1_most 31 = .ok (.invokestatic 83, 3) := dk_184 0 83 (dk_at dksX1_most_1 7 rfl rfl)
theorem dX1_most_34 : decode cX1_most 34 = .ok (.ifCond .eq 7, 3) := dk_153 0 7 (dk_at dksX1_most_1 10 rfl rfl)
theorem dX1_most_37 : decode cX1_most 37 = .ok (.iconst 1, 1) := dk_4 (dk_at dksX1_most_1 13 rfl rfl)
theorem dX1_most_38 : decode cX1_most 38 = .ok (.goto 4, 3) := dk_167 0 4 (dk_at dksX1_most_1 14 rfl rfl)
theorem dX1_most_41 : decode cX1_most 41 = .ok (.iconst 0, 1) := dk_3 (dk_at dksX1_most_1 17 rfl rfl)
theorem dX1_most_42 : decode cX1_most 42 = .ok (.invokevirtual 129, 3) := dk_182 0 129 (dk_at dksX1_most_1 18 rfl rfl)
theorem dX1_most_45 : decode cX1_most 45 = .ok (.istore 4, 2) := dk_54 4 (dk_at dksX1_most_1 21 rfl rfl)
theorem dX1_most_47 : decode cX1_most 47 = .ok (.iload 4, 2) := dk_21 4 (dk_at dksX1_most_2 0 rfl rfl)
theorem dX1_most_49 : decode cX1_most 49 = .ok (.ifCond .eq 11, 3) := dk_153 0 11 (dk_at dksX1_most_2 2 rfl rfl)
theorem dX1_most_52 : decode cX1_most 52 = .ok (.aload_n 0, 1) := dk_42 (dk_at dksX1_most_2 5 rfl rfl)
theorem dX1_most_53 : decode cX1_most 53 = .ok (.iload 4, 2) := dk_21 4 (dk_at dksX1_most_2 6 rfl rfl)
theorem dX1_most_55 : decode cX1_most 55 = .ok (.invokevirtual 87, 3) := dk_182 0 87 (dk_at dksX1_most_2 8 rfl rfl)
theorem dX1_most_58 : decode cX1_most 58 = .ok (.i2l, 1) := dk_133 (dk_at dksX1_most_2 11 rfl rfl)
theorem dX1_most_59 : decode cX1_most 59 = .ok (.lreturn, 1) := dk_173 (dk_at dksX1_most_2 12 rfl rfl)
theorem dX1_most_60 : decode cX1_most 60 = .ok (.aload_n 0, 1) := dk_42 (dk_at dksX1_most_2 13 rfl rfl)
theorem dX1_most_61 : decode cX1_most 61 = .ok (.iload_n 1, 1) := dk_27 (dk_at dksX1_most_2 14 rfl rfl)
theorem dX1_most_62 : decode cX1_most 62 = .ok (.iconst (-1), 1) := dk_2 (dk_at dksX1_most_2 15 rfl rfl)
theorem dX1_most_63 : decode cX1_most 63 = .ok (.iload_n 2, 1) := dk_28 (dk_at dksX1_most_2 16 rfl rfl)
theorem dX1_most_64 : decode cX1_most 64 = .ok (.invokevirtual 347, 3) := dk_182 1 91 (dk_at dksX1_most_2 17 rfl rfl)
theorem dX1_most_67 : decode cX1_most 67 = .ok (.aload_n 0, 1) := dk_42 (dk_at dksX1_most_2 20 rfl rfl)
theorem dX1_most_68 : decode cX1_most 68 = .ok (.getfield 341, 3) := dk_180 1 85 (dk_at dksX1_most_2 21 rfl rfl)
theorem dX1_most_71 : decode cX1_most 71 = .ok (.aload_n 0, 1) := dk_42 (dk_at dksX1_most_3 0 rfl rfl)
theorem dX1_most_72 : decode cX1_most 72 = .ok (.getfield 337, 3) := dk_180 1 81 (dk_at dksX1_most_3 1 rfl rfl)
theorem dX1_most_75 : decode cX1_most 75 = .ok (.iload_n 3, 1) := dk_29 (dk_at dksX1_most_3 4 rfl rfl)
theorem dX1_most_76 : decode cX1_most 76 = .ok (.invokestatic 333, 3) := dk_184 1 77 (dk_at dksX1_most_3 5 rfl rfl)
theorem dX1_most_79 : decode cX1_most 79 = .ok (.lreturn, 1) := dk_173 (dk_at dksX1_most_3 8 rfl rfl)
abbrev cX1_tryLips : ByteArray := prog_1_method_76_code
def yX1_tryLips : MethodName := ⟨RX1, "tryLips", "(III)V"⟩
def dkwX1_tryLips_9 : List UInt8 := [177]
abbrev dktX1_tryLips_9 : List UInt8 := dkwX1_tryLips_9 ++ []
def dkwX1_tryLips_8 : List UInt8 := [181, 1, 85, 42, 89, 180, 1, 88, 22, 5, 21, 8, 133, 105, 97, 181, 1, 88, 132, 4, 1, 167, 255, 69]
abbrev dktX1_tryLips_8 : List UInt8 := dkwX1_tryLips_8 ++ dktX1_tryLips_9
def dkwX1_tryLips_7 : List UInt8 := [97, 181, 1, 81, 42, 89, 180, 1, 85, 21, 7, 27, 161, 0, 8, 22, 5, 167, 0, 4, 9, 97]
abbrev dktX1_tryLips_7 : List UInt8 := dkwX1_tryLips_7 ++ dktX1_tryLips_8
def dkwX1_tryLips_6 : List UInt8 := [160, 0, 7, 4, 167, 0, 4, 3, 96, 54, 8, 132, 9, 1, 167, 255, 148, 42, 89, 180, 1, 81, 22, 5]
abbrev dktX1_tryLips_6 : List UInt8 := dkwX1_tryLips_6 ++ dktX1_tryLips_7
def dkwX1_tryLips_5 : List UInt8 := [167, 0, 4, 3, 96, 54, 7, 21, 8, 42, 180, 0, 33, 21, 9, 29, 21, 10, 182, 0, 189, 28]
abbrev dktX1_tryLips_5 : List UInt8 := dkwX1_tryLips_5 ++ dktX1_tryLips_6
def dkwX1_tryLips_4 : List UInt8 := [133, 105, 55, 5, 21, 7, 42, 180, 0, 33, 21, 9, 29, 21, 10, 182, 0, 202, 153, 0, 7, 4]
abbrev dktX1_tryLips_4 : List UInt8 := dkwX1_tryLips_4 ++ dktX1_tryLips_5
def dkwX1_tryLips_3 : List UInt8 := [160, 0, 14, 42, 180, 0, 98, 180, 1, 72, 133, 167, 0, 14, 16, 100, 42, 180, 0, 98, 180, 1, 72, 100]
abbrev dktX1_tryLips_3 : List UInt8 := dkwX1_tryLips_3 ++ dktX1_tryLips_4
def dkwX1_tryLips_2 : List UInt8 := [42, 180, 0, 98, 180, 0, 123, 162, 0, 102, 21, 4, 21, 9, 122, 4, 126, 54, 10, 22, 5, 21, 10, 4]
abbrev dktX1_tryLips_2 : List UInt8 := dkwX1_tryLips_2 ++ dktX1_tryLips_3
def dkwX1_tryLips_1 : List UInt8 := [180, 0, 98, 180, 0, 123, 120, 162, 0, 179, 10, 55, 5, 3, 54, 7, 3, 54, 8, 3, 54, 9, 21, 9]
abbrev dktX1_tryLips_1 : List UInt8 := dkwX1_tryLips_1 ++ dktX1_tryLips_2
def dkwX1_tryLips_0 : List UInt8 := [42, 9, 181, 1, 81, 42, 9, 181, 1, 85, 42, 9, 181, 1, 88, 3, 54, 4, 21, 4, 4, 42]
abbrev dktX1_tryLips_0 : List UInt8 := dkwX1_tryLips_0 ++ dktX1_tryLips_1
theorem dksX1_tryLips_0 : cX1_tryLips.data.toList.drop 0 = dktX1_tryLips_0 := by decide +kernel
theorem dksX1_tryLips_1 : cX1_tryLips.data.toList.drop 22 = dktX1_tryLips_1 := dk_seg dksX1_tryLips_0 22 rfl rfl
theorem dksX1_tryLips_2 : cX1_tryLips.data.toList.drop 46 = dktX1_tryLips_2 := dk_seg dksX1_tryLips_1 24 rfl rfl
theorem dksX1_tryLips_3 : cX1_tryLips.data.toList.drop 70 = dktX1_tryLips_3 := dk_seg dksX1_tryLips_2 24 rfl rfl
theorem dksX1_tryLips_4 : cX1_tryLips.data.toList.drop 94 = dktX1_tryLips_4 := dk_seg dksX1_tryLips_3 24 rfl rfl
theorem dksX1_tryLips_5 : cX1_tryLips.data.toList.drop 116 = dktX1_tryLips_5 := dk_seg dksX1_tryLips_4 22 rfl rfl
theorem dksX1_tryLips_6 : cX1_tryLips.data.toList.drop 138 = dktX1_tryLips_6 := dk_seg dksX1_tryLips_5 22 rfl rfl
theorem dksX1_tryLips_7 : cX1_tryLips.data.toList.drop 162 = dktX1_tryLips_7 := dk_seg dksX1_tryLips_6 24 rfl rfl
theorem dksX1_tryLips_8 : cX1_tryLips.data.toList.drop 184 = dktX1_tryLips_8 := dk_seg dksX1_tryLips_7 22 rfl rfl
theorem dksX1_tryLips_9 : cX1_tryLips.data.toList.drop 208 = dktX1_tryLips_9 := dk_seg dksX1_tryLips_8 24 rfl rfl
theorem dX1_tryLips_0 : decode cX1_tryLips 0 = .ok (.aload_n 0, 1) := dk_42 (dk_at dksX1_tryLips_0 0 rfl rfl)
theorem dX1_tryLips_1 : decode cX1_tryLips 1 = .ok (.lconst 0, 1) := dk_9 (dk_at dksX1_tryLips_0 1 rfl rfl)
theorem dX1_tryLips_2 : decode cX1_tryLips 2 = .ok (.putfield 337, 3) := dk_181 1 81 (dk_at dksX1_tryLips_0 2 rfl rfl)
theorem dX1_tryLips_5 : decode cX1_tryLips 5 = .ok (.aload_n 0, 1) := dk_42 (dk_at dksX1_tryLips_0 5 rfl rfl)
theorem dX1_tryLips_6 : decode cX1_tryLips 6 = .ok (.lconst 0, 1) := dk_9 (dk_at dksX1_tryLips_0 6 rfl rfl)
theorem dX1_tryLips_7 : decode cX1_tryLips 7 = .ok (.putfield 341, 3) := dk_181 1 85 (dk_at dksX1_tryLips_0 7 rfl rfl)
theorem dX1_tryLips_10 : decode cX1_tryLips 10 = .ok (.aload_n 0, 1) := dk_42 (dk_at dksX1_tryLips_0 10 rfl rfl)
theorem dX1_tryLips_11 : decode cX1_tryLips 11 = .ok (.lconst 0, 1) := dk_9 (dk_at dksX1_tryLips_0 11 rfl rfl)
theorem dX1_tryLips_12 : decode cX1_tryLips 12 = .ok (.putfield 344, 3) := dk_181 1 88 (dk_at dksX1_tryLips_0 12 rfl rfl)
theorem dX1_tryLips_15 : decode cX1_tryLips 15 = .ok (.iconst 0, 1) := dk_3 (dk_at dksX1_tryLips_0 15 rfl rfl)
theorem dX1_tryLips_16 : decode cX1_tryLips 16 = .ok (.istore 4, 2) := dk_54 4 (dk_at dksX1_tryLips_0 16 rfl rfl)
theorem dX1_tryLips_18 : decode cX1_tryLips 18 = .ok (.iload 4, 2) := dk_21 4 (dk_at dksX1_tryLips_0 18 rfl rfl)
theorem dX1_tryLips_20 : decode cX1_tryLips 20 = .ok (.iconst 1, 1) := dk_4 (dk_at dksX1_tryLips_0 20 rfl rfl)
theorem dX1_tryLips_21 : decode cX1_tryLips 21 = .ok (.aload_n 0, 1) := dk_42 (dk_at dksX1_tryLips_0 21 rfl rfl)
theorem dX1_tryLips_22 : decode cX1_tryLips 22 = .ok (.getfield 98, 3) := dk_180 0 98 (dk_at dksX1_tryLips_1 0 rfl rfl)
theorem dX1_tryLips_25 : decode cX1_tryLips 25 = .ok (.getfield 123, 3) := dk_180 0 123 (dk_at dksX1_tryLips_1 3 rfl rfl)
theorem dX1_tryLips_28 : decode cX1_tryLips 28 = .ok (.ishl, 1) := dk_120 (dk_at dksX1_tryLips_1 6 rfl rfl)
theorem dX1_tryLips_29 : decode cX1_tryLips 29 = .ok (.if_icmp .ge 179, 3) := dk_162 0 179 (dk_at dksX1_tryLips_1 7 rfl rfl)
theorem dX1_tryLips_32 : decode cX1_tryLips 32 = .ok (.lconst 1, 1) := dk_10 (dk_at dksX1_tryLips_1 10 rfl rfl)
theorem dX1_tryLips_33 : decode cX1_tryLips 33 = .ok (.lstore 5, 2) := dk_55 5 (dk_at dksX1_tryLips_1 11 rfl rfl)
theorem dX1_tryLips_35 : decode cX1_tryLips 35 = .ok (.iconst 0, 1) := dk_3 (dk_at dksX1_tryLips_1 13 rfl rfl)
theorem dX1_tryLips_36 : decode cX1_tryLips 36 = .ok (.istore 7, 2) := dk_54 7 (dk_at dksX1_tryLips_1 14 rfl rfl)
theorem dX1_tryLips_38 : decode cX1_tryLips 38 = .ok (.iconst 0, 1) := dk_3 (dk_at dksX1_tryLips_1 16 rfl rfl)
theorem dX1_tryLips_39 : decode cX1_tryLips 39 = .ok (.istore 8, 2) := dk_54 8 (dk_at dksX1_tryLips_1 17 rfl rfl)
theorem dX1_tryLips_41 : decode cX1_tryLips 41 = .ok (.iconst 0, 1) := dk_3 (dk_at dksX1_tryLips_1 19 rfl rfl)
theorem dX1_tryLips_42 : decode cX1_tryLips 42 = .ok (.istore 9, 2) := dk_54 9 (dk_at dksX1_tryLips_1 20 rfl rfl)
theorem dX1_tryLips_44 : decode cX1_tryLips 44 = .ok (.iload 9, 2) := dk_21 9 (dk_at dksX1_tryLips_1 22 rfl rfl)
theorem dX1_tryLips_46 : decode cX1_tryLips 46 = .ok (.aload_n 0, 1) := dk_42 (dk_at dksX1_tryLips_2 0 rfl rfl)
theorem dX1_tryLips_47 : decode cX1_tryLips 47 = .ok (.getfield 98, 3) := dk_180 0 98 (dk_at dksX1_tryLips_2 1 rfl rfl)
theorem dX1_tryLips_50 : decode cX1_tryLips 50 = .ok (.getfield 123, 3) := dk_180 0 123 (dk_at dksX1_tryLips_2 4 rfl rfl)
theorem dX1_tryLips_53 : decode cX1_tryLips 53 = .ok (.if_icmp .ge 102, 3) := dk_162 0 102 (dk_at dksX1_tryLips_2 7 rfl rfl)
theorem dX1_tryLips_56 : decode cX1_tryLips 56 = .ok (.iload 4, 2) := dk_21 4 (dk_at dksX1_tryLips_2 10 rfl rfl)
theorem dX1_tryLips_58 : decode cX1_tryLips 58 = .ok (.iload 9, 2) := dk_21 9 (dk_at dksX1_tryLips_2 12 rfl rfl)
theorem dX1_tryLips_60 : decode cX1_tryLips 60 = .ok (.ishr, 1) := dk_122 (dk_at dksX1_tryLips_2 14 rfl rfl)
theorem dX1_tryLips_61 : decode cX1_tryLips 61 = .ok (.iconst 1, 1) := dk_4 (dk_at dksX1_tryLips_2 15 rfl rfl)
theorem dX1_tryLips_62 : decode cX1_tryLips 62 = .ok (.iand, 1) := dk_126 (dk_at dksX1_tryLips_2 16 rfl rfl)
theorem dX1_tryLips_63 : decode cX1_tryLips 63 = .ok (.istore 10, 2) := dk_54 10 (dk_at dksX1_tryLips_2 17 rfl rfl)
theorem dX1_tryLips_65 : decode cX1_tryLips 65 = .ok (.lload 5, 2) := dk_22 5 (dk_at dksX1_tryLips_2 19 rfl rfl)
theorem dX1_tryLips_67 : decode cX1_tryLips 67 = .ok (.iload 10, 2) := dk_21 10 (dk_at dksX1_tryLips_2 21 rfl rfl)
theorem dX1_tryLips_69 : decode cX1_tryLips 69 = .ok (.iconst 1, 1) := dk_4 (dk_at dksX1_tryLips_2 23 rfl rfl)
theorem dX1_tryLips_70 : decode cX1_tryLips 70 = .ok (.if_icmp .ne 14, 3) := dk_160 0 14 (dk_at dksX1_tryLips_3 0 rfl rfl)
theorem dX1_tryLips_73 : decode cX1_tryLips 73 = .ok (.aload_n 0, 1) := dk_42 (dk_at dksX1_tryLips_3 3 rfl rfl)
theorem dX1_tryLips_74 : decode cX1_tryLips 74 = .ok (.getfield 98, 3) := dk_180 0 98 (dk_at dksX1_tryLips_3 4 rfl rfl)
theorem dX1_tryLips_77 : decode cX1_tryLips 77 = .ok (.getfield 328, 3) := dk_180 1 72 (dk_at dksX1_tryLips_3 7 rfl rfl)
theorem dX1_tryLips_80 : decode cX1_tryLips 80 = .ok (.i2l, 1) := dk_133 (dk_at dksX1_tryLips_3 10 rfl rfl)
theorem dX1_tryLips_81 : decode cX1_tryLips 81 = .ok (.goto 14, 3) := dk_167 0 14 (dk_at dksX1_tryLips_3 11 rfl rfl)
theorem dX1_tryLips_84 : decode cX1_tryLips 84 = .ok (.bipush 100, 2) := dk_16 100 (dk_at dksX1_tryLips_3 14 rfl rfl)
theorem dX1_tryLips_86 : decode cX1_tryLips 86 = .ok (.aload_n 0, 1) := dk_42 (dk_at dksX1_tryLips_3 16 rfl rfl)
theorem dX1_tryLips_87 : decode cX1_tryLips 87 = .ok (.getfield 98, 3) := dk_180 0 98 (dk_at dksX1_tryLips_3 17 rfl rfl)
theorem dX1_tryLips_90 : decode cX1_tryLips 90 = .ok (.getfield 328, 3) := dk_180 1 72 (dk_at dksX1_tryLips_3 20 rfl rfl)
theorem dX1_tryLips_93 : decode cX1_tryLips 93 = .ok (.isub, 1) := dk_100 (dk_at dksX1_tryLips_3 23 rfl rfl)
theorem dX1_tryLips_94 : decode cX1_tryLips 94 = .ok (.i2l, 1) := dk_133 (dk_at dksX1_tryLips_4 0 rfl rfl)
theorem dX1_tryLips_95 : decode cX1_tryLips 95 = .ok (.lmul, 1) := dk_105 (dk_at dksX1_tryLips_4 1 rfl rfl)
theorem dX1_tryLips_96 : decode cX1_tryLips 96 = .ok (.lstore 5, 2) := dk_55 5 (dk_at dksX1_tryLips_4 2 rfl rfl)
theorem dX1_tryLips_98 : decode cX1_tryLips 98 = .ok (.iload 7, 2) := dk_21 7 (dk_at dksX1_tryLips_4 4 rfl rfl)
theorem dX1_tryLips_100 : decode cX1_tryLips 100 = .ok (.aload_n 0, 1) := dk_42 (dk_at dksX1_tryLips_4 6 rfl rfl)
theorem dX1_tryLips_101 : decode cX1_tryLips 101 = .ok (.getfield 33, 3) := dk_180 0 33 (dk_at dksX1_tryLips_4 7 rfl rfl)
theorem dX1_tryLips_104 : decode cX1_tryLips 104 = .ok (.iload 9, 2) := dk_21 9 (dk_at dksX1_tryLips_4 10 rfl rfl)
theorem dX1_tryLips_106 : decode cX1_tryLips 106 = .ok (.iload_n 3, 1) := dk_29 (dk_at dksX1_tryLips_4 12 rfl rfl)
theorem dX1_tryLips_107 : decode cX1_tryLips 107 = .ok (.iload 10, 2) := dk_21 10 (dk_at dksX1_tryLips_4 13 rfl rfl)
theorem dX1_tryLips_109 : decode cX1_tryLips 109 = .ok (.invokevirtual 202, 3) := dk_182 0 202 (dk_at dksX1_tryLips_4 15 rfl rfl)
theorem dX1_tryLips_112 : decode cX1_tryLips 112 = .ok (.ifCond .eq 7, 3) := dk_153 0 7 (dk_at dksX1_tryLips_4 18 rfl rfl)
theorem dX1_tryLips_115 : decode cX1_tryLips 115 = .ok (.iconst 1, 1) := dk_4 (dk_at dksX1_tryLips_4 21 rfl rfl)
theorem dX1_tryLips_116 : decode cX1_tryLips 116 = .ok (.goto 4, 3) := dk_167 0 4 (dk_at dksX1_tryLips_5 0 rfl rfl)
theorem dX1_tryLips_119 : decode cX1_tryLips 119 = .ok (.iconst 0, 1) := dk_3 (dk_at dksX1_tryLips_5 3 rfl rfl)
theorem dX1_tryLips_120 : decode cX1_tryLips 120 = .ok (.iadd, 1) := dk_96 (dk_at dksX1_tryLips_5 4 rfl rfl)
theorem dX1_tryLips_121 : decode cX1_tryLips 121 = .ok (.istore 7, 2) := dk_54 7 (dk_at dksX1_tryLips_5 5 rfl rfl)
theorem dX1_tryLips_123 : decode cX1_tryLips 123 = .ok (.iload 8, 2) := dk_21 8 (dk_at dksX1_tryLips_5 7 rfl rfl)
theorem dX1_tryLips_125 : decode cX1_tryLips 125 = .ok (.aload_n 0, 1) := dk_42 (dk_at dksX1_tryLips_5 9 rfl rfl)
theorem dX1_tryLips_126 : decode cX1_tryLips 126 = .ok (.getfield 33, 3) := dk_180 0 33 (dk_at dksX1_tryLips_5 10 rfl rfl)
theorem dX1_tryLips_129 : decode cX1_tryLips 129 = .ok (.iload 9, 2) := dk_21 9 (dk_at dksX1_tryLips_5 13 rfl rfl)
theorem dX1_tryLips_131 : decode cX1_tryLips 131 = .ok (.iload_n 3, 1) := dk_29 (dk_at dksX1_tryLips_5 15 rfl rfl)
theorem dX1_tryLips_132 : decode cX1_tryLips 132 = .ok (.iload 10, 2) := dk_21 10 (dk_at dksX1_tryLips_5 16 rfl rfl)
theorem dX1_tryLips_134 : decode cX1_tryLips 134 = .ok (.invokevirtual 189, 3) := dk_182 0 189 (dk_at dksX1_tryLips_5 18 rfl rfl)
theorem dX1_tryLips_137 : decode cX1_tryLips 137 = .ok (.iload_n 2, 1) := dk_28 (dk_at dksX1_tryLips_5 21 rfl rfl)
theorem dX1_tryLips_138 : decode cX1_tryLips 138 = .ok (.if_icmp .ne 7, 3) := dk_160 0 7 (dk_at dksX1_tryLips_6 0 rfl rfl)
theorem dX1_tryLips_141 : decode cX1_tryLips 141 = .ok (.iconst 1, 1) := dk_4 (dk_at dksX1_tryLips_6 3 rfl rfl)
theorem dX1_tryLips_142 : decode cX1_tryLips 142 = .ok (.goto 4, 3) := dk_167 0 4 (dk_at dksX1_tryLips_6 4 rfl rfl)
theorem dX1_tryLips_145 : decode cX1_tryLips 145 = .ok (.iconst 0, 1) := dk_3 (dk_at dksX1_tryLips_6 7 rfl rfl)
theorem dX1_tryLips_146 : decode cX1_tryLips 146 = .ok (.iadd, 1) := dk_96 (dk_at dksX1_tryLips_6 8 rfl rfl)
theorem dX1_tryLips_147 : decode cX1_tryLips 147 = .ok (.istore 8, 2) := dk_54 8 (dk_at dksX1_tryLips_6 9 rfl rfl)
theorem dX1_tryLips_149 : decode cX1_tryLips 149 = .ok (.iinc 9 1, 3) := dk_132 9 1 (dk_at dksX1_tryLips_6 11 rfl rfl)
theorem dX1_tryLips_152 : decode cX1_tryLips 152 = .ok (.goto (-108), 3) := dk_167 255 148 (dk_at dksX1_tryLips_6 14 rfl rfl)
theorem dX1_tryLips_155 : decode cX1_tryLips 155 = .ok (.aload_n 0, 1) := dk_42 (dk_at dksX1_tryLips_6 17 rfl rfl)
theorem dX1_tryLips_156 : decode cX1_tryLips 156 = .ok (.dup, 1) := dk_89 (dk_at dksX1_tryLips_6 18 rfl rfl)
theorem dX1_tryLips_157 : decode cX1_tryLips 157 = .ok (.getfield 337, 3) := dk_180 1 81 (dk_at dksX1_tryLips_6 19 rfl rfl)
theorem dX1_tryLips_160 : decode cX1_tryLips 160 = .ok (.lload 5, 2) := dk_22 5 (dk_at dksX1_tryLips_6 22 rfl rfl)
theorem dX1_tryLips_162 : decode cX1_tryLips 162 = .ok (.ladd, 1) := dk_97 (dk_at dksX1_tryLips_7 0 rfl rfl)
theorem dX1_tryLips_163 : decode cX1_tryLips 163 = .ok (.putfield 337, 3) := dk_181 1 81 (dk_at dksX1_tryLips_7 1 rfl rfl)
theorem dX1_tryLips_166 : decode cX1_tryLips 166 = .ok (.aload_n 0, 1) := dk_42 (dk_at dksX1_tryLips_7 4 rfl rfl)
theorem dX1_tryLips_167 : decode cX1_tryLips 167 = .ok (.dup, 1) := dk_89 (dk_at dksX1_tryLips_7 5 rfl rfl)
theorem dX1_tryLips_168 : decode cX1_tryLips 168 = .ok (.getfield 341, 3) := dk_180 1 85 (dk_at dksX1_tryLips_7 6 rfl rfl)
theorem dX1_tryLips_171 : decode cX1_tryLips 171 = .ok (.iload 7, 2) := dk_21 7 (dk_at dksX1_tryLips_7 9 rfl rfl)
theorem dX1_tryLips_173 : decode cX1_tryLips 173 = .ok (.iload_n 1, 1) := dk_27 (dk_at dksX1_tryLips_7 11 rfl rfl)
theorem dX1_tryLips_174 : decode cX1_tryLips 174 = .ok (.if_icmp .lt 8, 3) := dk_161 0 8 (dk_at dksX1_tryLips_7 12 rfl rfl)
theorem dX1_tryLips_177 : decode cX1_tryLips 177 = .ok (.lload 5, 2) := dk_22 5 (dk_at dksX1_tryLips_7 15 rfl rfl)
theorem dX1_tryLips_179 : decode cX1_tryLips 179 = .ok (.goto 4, 3) := dk_167 0 4 (dk_at dksX1_tryLips_7 17 rfl rfl)
theorem dX1_tryLips_182 : decode cX1_tryLips 182 = .ok (.lconst 0, 1) := dk_9 (dk_at dksX1_tryLips_7 20 rfl rfl)
theorem dX1_tryLips_183 : decode cX1_tryLips 183 = .ok (.ladd, 1) := dk_97 (dk_at dksX1_tryLips_7 21 rfl rfl)
theorem dX1_tryLips_184 : decode cX1_tryLips 184 = .ok (.putfield 341, 3) := dk_181 1 85 (dk_at dksX1_tryLips_8 0 rfl rfl)
theorem dX1_tryLips_187 : decode cX1_tryLips 187 = .ok (.aload_n 0, 1) := dk_42 (dk_at dksX1_tryLips_8 3 rfl rfl)
theorem dX1_tryLips_188 : decode cX1_tryLips 188 = .ok (.dup, 1) := dk_89 (dk_at dksX1_tryLips_8 4 rfl rfl)
theorem dX1_tryLips_189 : decode cX1_tryLips 189 = .ok (.getfield 344, 3) := dk_180 1 88 (dk_at dksX1_tryLips_8 5 rfl rfl)
theorem dX1_tryLips_192 : decode cX1_tryLips 192 = .ok (.lload 5, 2) := dk_22 5 (dk_at dksX1_tryLips_8 8 rfl rfl)
theorem dX1_tryLips_194 : decode cX1_tryLips 194 = .ok (.iload 8, 2) := dk_21 8 (dk_at dksX1_tryLips_8 10 rfl rfl)
theorem dX1_tryLips_196 : decode cX1_tryLips 196 = .ok (.i2l, 1) := dk_133 (dk_at dksX1_tryLips_8 12 rfl rfl)
theorem dX1_tryLips_197 : decode cX1_tryLips 197 = .ok (.lmul, 1) := dk_105 (dk_at dksX1_tryLips_8 13 rfl rfl)
theorem dX1_tryLips_198 : decode cX1_tryLips 198 = .ok (.ladd, 1) := dk_97 (dk_at dksX1_tryLips_8 14 rfl rfl)
theorem dX1_tryLips_199 : decode cX1_tryLips 199 = .ok (.putfield 344, 3) := dk_181 1 88 (dk_at dksX1_tryLips_8 15 rfl rfl)
theorem dX1_tryLips_202 : decode cX1_tryLips 202 = .ok (.iinc 4 1, 3) := dk_132 4 1 (dk_at dksX1_tryLips_8 18 rfl rfl)
theorem dX1_tryLips_205 : decode cX1_tryLips 205 = .ok (.goto (-187), 3) := dk_167 255 69 (dk_at dksX1_tryLips_8 21 rfl rfl)
theorem dX1_tryLips_208 : decode cX1_tryLips 208 = .ok (.return_, 1) := dk_177 (dk_at dksX1_tryLips_9 0 rfl rfl)
abbrev cX1_mean : ByteArray := prog_1_method_78_code
def yX1_mean : MethodName := ⟨RX1, "mean", "(IIZ)J"⟩
def dkwX1_mean_2 : List UInt8 := [173]
abbrev dktX1_mean_2 : List UInt8 := dkwX1_mean_2 ++ []
def dkwX1_mean_1 : List UInt8 := [182, 0, 87, 133, 173, 42, 3, 27, 28, 182, 1, 91, 42, 180, 1, 88, 42, 180, 1, 81, 29, 184, 1, 77]
abbrev dktX1_mean_1 : List UInt8 := dkwX1_mean_1 ++ dktX1_mean_2
def dkwX1_mean_0 : List UInt8 := [42, 182, 0, 73, 42, 42, 27, 182, 0, 133, 28, 182, 0, 178, 54, 4, 21, 4, 153, 0, 11, 42, 21, 4]
abbrev dktX1_mean_0 : List UInt8 := dkwX1_mean_0 ++ dktX1_mean_1
theorem dksX1_mean_0 : cX1_mean.data.toList.drop 0 = dktX1_mean_0 := by decide +kernel
theorem dksX1_mean_1 : cX1_mean.data.toList.drop 24 = dktX1_mean_1 := dk_seg dksX1_mean_0 24 rfl rfl
theorem dksX1_mean_2 : cX1_mean.data.toList.drop 48 = dktX1_mean_2 := dk_seg dksX1_mean_1 24 rfl rfl
theorem dX1_mean_0 : decode cX1_mean 0 = .ok (.aload_n 0, 1) := dk_42 (dk_at dksX1_mean_0 0 rfl rfl)
theorem dX1_mean_1 : decode cX1_mean 1 = .ok (.invokevirtual 73, 3) := dk_182 0 73 (dk_at dksX1_mean_0 1 rfl rfl)
theorem dX1_mean_4 : decode cX1_mean 4 = .ok (.aload_n 0, 1) := dk_42 (dk_at dksX1_mean_0 4 rfl rfl)
theorem dX1_mean_5 : decode cX1_mean 5 = .ok (.aload_n 0, 1) := dk_42 (dk_at dksX1_mean_0 5 rfl rfl)
theorem dX1_mean_6 : decode cX1_mean 6 = .ok (.iload_n 1, 1) := dk_27 (dk_at dksX1_mean_0 6 rfl rfl)
theorem dX1_mean_7 : decode cX1_mean 7 = .ok (.invokevirtual 133, 3) := dk_182 0 133 (dk_at dksX1_mean_0 7 rfl rfl)
theorem dX1_mean_10 : decode cX1_mean 10 = .ok (.iload_n 2, 1) := dk_28 (dk_at dksX1_mean_0 10 rfl rfl)
theorem dX1_mean_11 : decode cX1_mean 11 = .ok (.invokevirtual 178, 3) := dk_182 0 178 (dk_at dksX1_mean_0 11 rfl rfl)
theorem dX1_mean_14 : decode cX1_mean 14 = .ok (.istore 4, 2) := dk_54 4 (dk_at dksX1_mean_0 14 rfl rfl)
theorem dX1_mean_16 : decode cX1_mean 16 = .ok (.iload 4, 2) := dk_21 4 (dk_at dksX1_mean_0 16 rfl rfl)
theorem dX1_mean_18 : decode cX1_mean 18 = .ok (.ifCond .eq 11, 3) := dk_153 0 11 (dk_at dksX1_mean_0 18 rfl rfl)
theorem dX1_mean_21 : decode cX1_mean 21 = .ok (.aload_n 0, 1) := dk_42 (dk_at dksX1_mean_0 21 rfl rfl)
theorem dX1_mean_22 : decode cX1_mean 22 = .ok (.iload 4, 2) := dk_21 4 (dk_at dksX1_mean_0 22 rfl rfl)
theorem dX1_mean_24 : decode cX1_mean 24 = .ok (.invokevirtual 87, 3) := dk_182 0 87 (dk_at dksX1_mean_1 0 rfl rfl)
theorem dX1_mean_27 : decode cX1_mean 27 = .ok (.i2l, 1) := dk_133 (dk_at dksX1_mean_1 3 rfl rfl)
theorem dX1_mean_28 : decode cX1_mean 28 = .ok (.lreturn, 1) := dk_173 (dk_at dksX1_mean_1 4 rfl rfl)
theorem dX1_mean_29 : decode cX1_mean 29 = .ok (.aload_n 0, 1) := dk_42 (dk_at dksX1_mean_1 5 rfl rfl)
theorem dX1_mean_30 : decode cX1_mean 30 = .ok (.iconst 0, 1) := dk_3 (dk_at dksX1_mean_1 6 rfl rfl)
theorem dX1_mean_31 : decode cX1_mean 31 = .ok (.iload_n 1, 1) := dk_27 (dk_at dksX1_mean_1 7 rfl rfl)
theorem dX1_mean_32 : decode cX1_mean 32 = .ok (.iload_n 2, 1) := dk_28 (dk_at dksX1_mean_1 8 rfl rfl)
theorem dX1_mean_33 : decode cX1_mean 33 = .ok (.invokevirtual 347, 3) := dk_182 1 91 (dk_at dksX1_mean_1 9 rfl rfl)
theorem dX1_mean_36 : decode cX1_mean 36 = .ok (.aload_n 0, 1) := dk_42 (dk_at dksX1_mean_1 12 rfl rfl)
theorem dX1_mean_37 : decode cX1_mean 37 = .ok (.getfield 344, 3) := dk_180 1 88 (dk_at dksX1_mean_1 13 rfl rfl)
theorem dX1_mean_40 : decode cX1_mean 40 = .ok (.aload_n 0, 1) := dk_42 (dk_at dksX1_mean_1 16 rfl rfl)
theorem dX1_mean_41 : decode cX1_mean 41 = .ok (.getfield 337, 3) := dk_180 1 81 (dk_at dksX1_mean_1 17 rfl rfl)
theorem dX1_mean_44 : decode cX1_mean 44 = .ok (.iload_n 3, 1) := dk_29 (dk_at dksX1_mean_1 20 rfl rfl)
theorem dX1_mean_45 : decode cX1_mean 45 = .ok (.invokestatic 333, 3) := dk_184 1 77 (dk_at dksX1_mean_1 21 rfl rfl)
theorem dX1_mean_48 : decode cX1_mean 48 = .ok (.lreturn, 1) := dk_173 (dk_at dksX1_mean_2 0 rfl rfl)
abbrev cX1_heardBy : ByteArray := prog_1_method_80_code
def yX1_heardBy : MethodName := ⟨RX1, "heardBy", "(III)I"⟩
def dkwX1_heardBy_1 : List UInt8 := [21, 4, 182, 0, 87, 167, 0, 7, 42, 180, 1, 98, 172]
abbrev dktX1_heardBy_1 : List UInt8 := dkwX1_heardBy_1 ++ []
def dkwX1_heardBy_0 : List UInt8 := [42, 182, 0, 73, 42, 42, 27, 182, 0, 150, 27, 28, 29, 182, 1, 102, 54, 4, 21, 4, 153, 0, 12, 42]
abbrev dktX1_heardBy_0 : List UInt8 := dkwX1_heardBy_0 ++ dktX1_heardBy_1
theorem dksX1_heardBy_0 : cX1_heardBy.data.toList.drop 0 = dktX1_heardBy_0 := by decide +kernel
theorem dksX1_heardBy_1 : cX1_heardBy.data.toList.drop 24 = dktX1_heardBy_1 := dk_seg dksX1_heardBy_0 24 rfl rfl
theorem dX1_heardBy_0 : decode cX1_heardBy 0 = .ok (.aload_n 0, 1) := dk_42 (dk_at dksX1_heardBy_0 0 rfl rfl)
theorem dX1_heardBy_1 : decode cX1_heardBy 1 = .ok (.invokevirtual 73, 3) := dk_182 0 73 (dk_at dksX1_heardBy_0 1 rfl rfl)
theorem dX1_heardBy_4 : decode cX1_heardBy 4 = .ok (.aload_n 0, 1) := dk_42 (dk_at dksX1_heardBy_0 4 rfl rfl)
theorem dX1_heardBy_5 : decode cX1_heardBy 5 = .ok (.aload_n 0, 1) := dk_42 (dk_at dksX1_heardBy_0 5 rfl rfl)
theorem dX1_heardBy_6 : decode cX1_heardBy 6 = .ok (.iload_n 1, 1) := dk_27 (dk_at dksX1_heardBy_0 6 rfl rfl)
theorem dX1_heardBy_7 : decode cX1_heardBy 7 = .ok (.invokevirtual 150, 3) := dk_182 0 150 (dk_at dksX1_heardBy_0 7 rfl rfl)
theorem dX1_heardBy_10 : decode cX1_heardBy 10 = .ok (.iload_n 1, 1) := dk_27 (dk_at dksX1_heardBy_0 10 rfl rfl)
theorem dX1_heardBy_11 : decode cX1_heardBy 11 = .ok (.iload_n 2, 1) := dk_28 (dk_at dksX1_heardBy_0 11 rfl rfl)
theorem dX1_heardBy_12 : decode cX1_heardBy 12 = .ok (.iload_n 3, 1) := dk_29 (dk_at dksX1_heardBy_0 12 rfl rfl)
theorem dX1_heardBy_13 : decode cX1_heardBy 13 = .ok (.invokevirtual 358, 3) := dk_182 1 102 (dk_at dksX1_heardBy_0 13 rfl rfl)
theorem dX1_heardBy_16 : decode cX1_heardBy 16 = .ok (.istore 4, 2) := dk_54 4 (dk_at dksX1_heardBy_0 16 rfl rfl)
theorem dX1_heardBy_18 : decode cX1_heardBy 18 = .ok (.iload 4, 2) := dk_21 4 (dk_at dksX1_heardBy_0 18 rfl rfl)
theorem dX1_heardBy_20 : decode cX1_heardBy 20 = .ok (.ifCond .eq 12, 3) := dk_153 0 12 (dk_at dksX1_heardBy_0 20 rfl rfl)
theorem dX1_heardBy_23 : decode cX1_heardBy 23 = .ok (.aload_n 0, 1) := dk_42 (dk_at dksX1_heardBy_0 23 rfl rfl)
theorem dX1_heardBy_24 : decode cX1_heardBy 24 = .ok (.iload 4, 2) := dk_21 4 (dk_at dksX1_heardBy_1 0 rfl rfl)
theorem dX1_heardBy_26 : decode cX1_heardBy 26 = .ok (.invokevirtual 87, 3) := dk_182 0 87 (dk_at dksX1_heardBy_1 2 rfl rfl)
theorem dX1_heardBy_29 : decode cX1_heardBy 29 = .ok (.goto 7, 3) := dk_167 0 7 (dk_at dksX1_heardBy_1 5 rfl rfl)
theorem dX1_heardBy_32 : decode cX1_heardBy 32 = .ok (.aload_n 0, 1) := dk_42 (dk_at dksX1_heardBy_1 8 rfl rfl)
theorem dX1_heardBy_33 : decode cX1_heardBy 33 = .ok (.getfield 354, 3) := dk_180 1 98 (dk_at dksX1_heardBy_1 9 rfl rfl)
theorem dX1_heardBy_36 : decode cX1_heardBy 36 = .ok (.ireturn, 1) := dk_172 (dk_at dksX1_heardBy_1 12 rfl rfl)
abbrev cX1_drawWhy : ByteArray := prog_1_method_79_code
def yX1_drawWhy : MethodName := ⟨RX1, "drawWhy", "(ZIII)I"⟩
def dkwX1_drawWhy_8 : List UInt8 := [167, 255, 138, 132, 7, 1, 167, 255, 122, 3, 172]
abbrev dktX1_drawWhy_8 : List UInt8 := dkwX1_drawWhy_8 ++ []
def dkwX1_drawWhy_7 : List UInt8 := [21, 7, 21, 9, 182, 0, 202, 153, 0, 7, 4, 167, 0, 4, 3, 96, 181, 1, 95, 132, 8, 1]
abbrev dktX1_drawWhy_7 : List UInt8 := dkwX1_drawWhy_7 ++ dktX1_drawWhy_8
def dkwX1_drawWhy_6 : List UInt8 := [182, 0, 189, 181, 1, 98, 42, 89, 180, 1, 95, 21, 7, 21, 4, 162, 0, 23, 42, 180, 0, 33, 21, 8]
abbrev dktX1_drawWhy_6 : List UInt8 := dkwX1_drawWhy_6 ++ dktX1_drawWhy_7
def dkwX1_drawWhy_5 : List UInt8 := [21, 4, 160, 0, 26, 21, 8, 28, 160, 0, 20, 42, 42, 180, 0, 33, 21, 8, 21, 7, 21, 9]
abbrev dktX1_drawWhy_5 : List UInt8 := dkwX1_drawWhy_5 ++ dktX1_drawWhy_6
def dkwX1_drawWhy_4 : List UInt8 := [21, 6, 16, 100, 112, 42, 180, 0, 98, 180, 1, 72, 162, 0, 7, 4, 167, 0, 4, 3, 54, 9, 21, 7]
abbrev dktX1_drawWhy_4 : List UInt8 := dkwX1_drawWhy_4 ++ dktX1_drawWhy_5
def dkwX1_drawWhy_3 : List UInt8 := [180, 0, 98, 180, 0, 123, 162, 0, 112, 16, 75, 21, 6, 104, 16, 74, 96, 19, 1, 101, 112, 54, 6]
abbrev dktX1_drawWhy_3 : List UInt8 := dkwX1_drawWhy_3 ++ dktX1_drawWhy_4
def dkwX1_drawWhy_2 : List UInt8 := [181, 1, 95, 42, 2, 181, 1, 98, 3, 54, 7, 21, 7, 21, 4, 163, 0, 133, 3, 54, 8, 21, 8, 42]
abbrev dktX1_drawWhy_2 : List UInt8 := dkwX1_drawWhy_2 ++ dktX1_drawWhy_3
def dkwX1_drawWhy_1 : List UInt8 := [4, 167, 0, 4, 3, 182, 0, 129, 54, 5, 21, 5, 153, 0, 6, 21, 5, 172, 29, 54, 6, 42, 3]
abbrev dktX1_drawWhy_1 : List UInt8 := dkwX1_drawWhy_1 ++ dktX1_drawWhy_2
def dkwX1_drawWhy_0 : List UInt8 := [42, 27, 29, 3, 19, 1, 94, 184, 0, 83, 153, 0, 18, 21, 4, 3, 16, 99, 184, 0, 83, 153, 0, 7]
abbrev dktX1_drawWhy_0 : List UInt8 := dkwX1_drawWhy_0 ++ dktX1_drawWhy_1
theorem dksX1_drawWhy_0 : cX1_drawWhy.data.toList.drop 0 = dktX1_drawWhy_0 := by decide +kernel
theorem dksX1_drawWhy_1 : cX1_drawWhy.data.toList.drop 24 = dktX1_drawWhy_1 := dk_seg dksX1_drawWhy_0 24 rfl rfl
theorem dksX1_drawWhy_2 : cX1_drawWhy.data.toList.drop 47 = dktX1_drawWhy_2 := dk_seg dksX1_drawWhy_1 23 rfl rfl
theorem dksX1_drawWhy_3 : cX1_drawWhy.data.toList.drop 71 = dktX1_drawWhy_3 := dk_seg dksX1_drawWhy_2 24 rfl rfl
theorem dksX1_drawWhy_4 : cX1_drawWhy.data.toList.drop 94 = dktX1_drawWhy_4 := dk_seg dksX1_drawWhy_3 23 rfl rfl
theorem dksX1_drawWhy_5 : cX1_drawWhy.data.toList.drop 118 = dktX1_drawWhy_5 := dk_seg dksX1_drawWhy_4 24 rfl rfl
theorem dksX1_drawWhy_6 : cX1_drawWhy.data.toList.drop 140 = dktX1_drawWhy_6 := dk_seg dksX1_drawWhy_5 22 rfl rfl
theorem dksX1_drawWhy_7 : cX1_drawWhy.data.toList.drop 164 = dktX1_drawWhy_7 := dk_seg dksX1_drawWhy_6 24 rfl rfl
theorem dksX1_drawWhy_8 : cX1_drawWhy.data.toList.drop 186 = dktX1_drawWhy_8 := dk_seg dksX1_drawWhy_7 22 rfl rfl
theorem dX1_drawWhy_0 : decode cX1_drawWhy 0 = .ok (.aload_n 0, 1) := dk_42 (dk_at dksX1_drawWhy_0 0 rfl rfl)
theorem dX1_drawWhy_1 : decode cX1_drawWhy 1 = .ok (.iload_n 1, 1) := dk_27 (dk_at dksX1_drawWhy_0 1 rfl rfl)
theorem dX1_drawWhy_2 : decode cX1_drawWhy 2 = .ok (.iload_n 3, 1) := dk_29 (dk_at dksX1_drawWhy_0 2 rfl rfl)
theorem dX1_drawWhy_3 : decode cX1_drawWhy 3 = .ok (.iconst 0, 1) := dk_3 (dk_at dksX1_drawWhy_0 3 rfl rfl)
theorem dX1_drawWhy_4 : decode cX1_drawWhy 4 = .ok (.ldc_w 350, 3) := dk_19 1 94 (dk_at dksX1_drawWhy_0 4 rfl rfl)
theorem dX1_drawWhy_7 : decode cX1_drawWhy 7 = .ok (.invokestatic 83, 3) := dk_184 0 83 (dk_at dksX1_drawWhy_0 7 rfl rfl)
theorem dX1_drawWhy_10 : decode cX1_drawWhy 10 = .ok (.ifCond .eq 18, 3) := dk_153 0 18 (dk_at dksX1_drawWhy_0 10 rfl rfl)
theorem dX1_drawWhy_13 : decode cX1_drawWhy 13 = .ok (.iload 4, 2) := dk_21 4 (dk_at dksX1_drawWhy_0 13 rfl rfl)
theorem dX1_drawWhy_15 : decode cX1_drawWhy 15 = .ok (.iconst 0, 1) := dk_3 (dk_at dksX1_drawWhy_0 15 rfl rfl)
theorem dX1_drawWhy_16 : decode cX1_drawWhy 16 = .ok (.bipush 99, 2) := dk_16 99 (dk_at dksX1_drawWhy_0 16 rfl rfl)
theorem dX1_drawWhy_18 : decode cX1_drawWhy 18 = .ok (.invokestatic 83, 3) := dk_184 0 83 (dk_at dksX1_drawWhy_0 18 rfl rfl)
theorem dX1_drawWhy_21 : decode cX1_drawWhy 21 = .ok (.ifCond .eq 7, 3) := dk_153 0 7 (dk_at dksX1_drawWhy_0 21 rfl rfl)
theorem dX1_drawWhy_24 : decode cX1_drawWhy 24 = .ok (.iconst 1, 1) := dk_4 (dk_at dksX1_drawWhy_1 0 rfl rfl)
theorem dX1_drawWhy_25 : decode cX1_drawWhy 25 = .ok (.goto 4, 3) := dk_167 0 4 (dk_at dksX1_drawWhy_1 1 rfl rfl)
theorem dX1_drawWhy_28 : decode cX1_drawWhy 28 = .ok (.iconst 0, 1) := dk_3 (dk_at dksX1_drawWhy_1 4 rfl rfl)
theorem dX1_drawWhy_29 : decode cX1_drawWhy 29 = .ok (.invokevirtual 129, 3) := dk_182 0 129 (dk_at dksX1_drawWhy_1 5 rfl rfl)
theorem dX1_drawWhy_32 : decode cX1_drawWhy 32 = .ok (.istore 5, 2) := dk_54 5 (dk_at dksX1_drawWhy_1 8 rfl rfl)
theorem dX1_drawWhy_34 : decode cX1_drawWhy 34 = .ok (.iload 5, 2) := dk_21 5 (dk_at dksX1_drawWhy_1 10 rfl rfl)
theorem dX1_drawWhy_36 : decode cX1_drawWhy 36 = .ok (.ifCond .eq 6, 3) := dk_153 0 6 (dk_at dksX1_drawWhy_1 12 rfl rfl)
theorem dX1_drawWhy_39 : decode cX1_drawWhy 39 = .ok (.iload 5, 2) := dk_21 5 (dk_at dksX1_drawWhy_1 15 rfl rfl)
theorem dX1_drawWhy_41 : decode cX1_drawWhy 41 = .ok (.ireturn, 1) := dk_172 (dk_at dksX1_drawWhy_1 17 rfl rfl)
theorem dX1_drawWhy_42 : decode cX1_drawWhy 42 = .ok (.iload_n 3, 1) := dk_29 (dk_at dksX1_drawWhy_1 18 rfl rfl)
theorem dX1_drawWhy_43 : decode cX1_drawWhy 43 = .ok (.istore 6, 2) := dk_54 6 (dk_at dksX1_drawWhy_1 19 rfl rfl)
theorem dX1_drawWhy_45 : decode cX1_drawWhy 45 = .ok (.aload_n 0, 1) := dk_42 (dk_at dksX1_drawWhy_1 21 rfl rfl)
theorem dX1_drawWhy_46 : decode cX1_drawWhy 46 = .ok (.iconst 0, 1) := dk_3 (dk_at dksX1_drawWhy_1 22 rfl rfl)
theorem dX1_drawWhy_47 : decode cX1_drawWhy 47 = .ok (.putfield 351, 3) := dk_181 1 95 (dk_at dksX1_drawWhy_2 0 rfl rfl)
theorem dX1_drawWhy_50 : decode cX1_drawWhy 50 = .ok (.aload_n 0, 1) := dk_42 (dk_at dksX1_drawWhy_2 3 rfl rfl)
theorem dX1_drawWhy_51 : decode cX1_drawWhy 51 = .ok (.iconst (-1), 1) := dk_2 (dk_at dksX1_drawWhy_2 4 rfl rfl)
theorem dX1_drawWhy_52 : decode cX1_drawWhy 52 = .ok (.putfield 354, 3) := dk_181 1 98 (dk_at dksX1_drawWhy_2 5 rfl rfl)
theorem dX1_drawWhy_55 : decode cX1_drawWhy 55 = .ok (.iconst 0, 1) := dk_3 (dk_at dksX1_drawWhy_2 8 rfl rfl)
theorem dX1_drawWhy_56 : decode cX1_drawWhy 56 = .ok (.istore 7, 2) := dk_54 7 (dk_at dksX1_drawWhy_2 9 rfl rfl)
theorem dX1_drawWhy_58 : decode cX1_drawWhy 58 = .ok (.iload 7, 2) := dk_21 7 (dk_at dksX1_drawWhy_2 11 rfl rfl)
theorem dX1_drawWhy_60 : decode cX1_drawWhy 60 = .ok (.iload 4, 2) := dk_21 4 (dk_at dksX1_drawWhy_2 13 rfl rfl)
theorem dX1_drawWhy_62 : decode cX1_drawWhy 62 = .ok (.if_icmp .gt 133, 3) := dk_163 0 133 (dk_at dksX1_drawWhy_2 15 rfl rfl)
theorem dX1_drawWhy_65 : decode cX1_drawWhy 65 = .ok (.iconst 0, 1) := dk_3 (dk_at dksX1_drawWhy_2 18 rfl rfl)
theorem dX1_drawWhy_66 : decode cX1_drawWhy 66 = .ok (.istore 8, 2) := dk_54 8 (dk_at dksX1_drawWhy_2 19 rfl rfl)
theorem dX1_drawWhy_68 : decode cX1_drawWhy 68 = .ok (.iload 8, 2) := dk_21 8 (dk_at dksX1_drawWhy_2 21 rfl rfl)
theorem dX1_drawWhy_70 : decode cX1_drawWhy 70 = .ok (.aload_n 0, 1) := dk_42 (dk_at dksX1_drawWhy_2 23 rfl rfl)
theorem dX1_drawWhy_71 : decode cX1_drawWhy 71 = .ok (.getfield 98, 3) := dk_180 0 98 (dk_at dksX1_drawWhy_3 0 rfl rfl)
theorem dX1_drawWhy_74 : decode cX1_drawWhy 74 = .ok (.getfield 123, 3) := dk_180 0 123 (dk_at dksX1_drawWhy_3 3 rfl rfl)
theorem dX1_drawWhy_77 : decode cX1_drawWhy 77 = .ok (.if_icmp .ge 112, 3) := dk_162 0 112 (dk_at dksX1_drawWhy_3 6 rfl rfl)
theorem dX1_drawWhy_80 : decode cX1_drawWhy 80 = .ok (.bipush 75, 2) := dk_16 75 (dk_at dksX1_drawWhy_3 9 rfl rfl)
theorem dX1_drawWhy_82 : decode cX1_drawWhy 82 = .ok (.iload 6, 2) := dk_21 6 (dk_at dksX1_drawWhy_3 11 rfl rfl)
theorem dX1_drawWhy_84 : decode cX1_drawWhy 84 = .ok (.imul, 1) := dk_104 (dk_at dksX1_drawWhy_3 13 rfl rfl)
theorem dX1_drawWhy_85 : decode cX1_drawWhy 85 = .ok (.bipush 74, 2) := dk_16 74 (dk_at dksX1_drawWhy_3 14 rfl rfl)
theorem dX1_drawWhy_87 : decode cX1_drawWhy 87 = .ok (.iadd, 1) := dk_96 (dk_at dksX1_drawWhy_3 16 rfl rfl)
theorem dX1_drawWhy_88 : decode cX1_drawWhy 88 = .ok (.ldc_w 357, 3) := dk_19 1 101 (dk_at dksX1_drawWhy_3 17 rfl rfl)
theorem dX1_drawWhy_91 : decode cX1_drawWhy 91 = .ok (.irem, 1) := dk_112 (dk_at dksX1_drawWhy_3 20 rfl rfl)
theorem dX1_drawWhy_92 : decode cX1_drawWhy 92 = .ok (.istore 6, 2) := dk_54 6 (dk_at dksX1_drawWhy_3 21 rfl rfl)
theorem dX1_drawWhy_94 : decode cX1_drawWhy 94 = .ok (.iload 6, 2) := dk_21 6 (dk_at dksX1_drawWhy_4 0 rfl rfl)
theorem dX1_drawWhy_96 : decode cX1_drawWhy 96 = .ok (.bipush 100, 2) := dk_16 100 (dk_at dksX1_drawWhy_4 2 rfl rfl)
theorem dX1_drawWhy_98 : decode cX1_drawWhy 98 = .ok (.irem, 1) := dk_112 (dk_at dksX1_drawWhy_4 4 rfl rfl)
theorem dX1_drawWhy_99 : decode cX1_drawWhy 99 = .ok (.aload_n 0, 1) := dk_42 (dk_at dksX1_drawWhy_4 5 rfl rfl)
theorem dX1_drawWhy_100 : decode cX1_drawWhy 100 = .ok (.getfield 98, 3) := dk_180 0 98 (dk_at dksX1_drawWhy_4 6 rfl rfl)
theorem dX1_drawWhy_103 : decode cX1_drawWhy 103 = .ok (.getfield 328, 3) := dk_180 1 72 (dk_at dksX1_drawWhy_4 9 rfl rfl)
theorem dX1_drawWhy_106 : decode cX1_drawWhy 106 = .ok (.if_icmp .ge 7, 3) := dk_162 0 7 (dk_at dksX1_drawWhy_4 12 rfl rfl)
theorem dX1_drawWhy_109 : decode cX1_drawWhy 109 = .ok (.iconst 1, 1) := dk_4 (dk_at dksX1_drawWhy_4 15 rfl rfl)
theorem dX1_drawWhy_110 : decode cX1_drawWhy 110 = .ok (.goto 4, 3) := dk_167 0 4 (dk_at dksX1_drawWhy_4 16 rfl rfl)
theorem dX1_drawWhy_113 : decode cX1_drawWhy 113 = .ok (.iconst 0, 1) := dk_3 (dk_at dksX1_drawWhy_4 19 rfl rfl)
theorem dX1_drawWhy_114 : decode cX1_drawWhy 114 = .ok (.istore 9, 2) := dk_54 9 (dk_at dksX1_drawWhy_4 20 rfl rfl)
theorem dX1_drawWhy_116 : decode cX1_drawWhy 116 = .ok (.iload 7, 2) := dk_21 7 (dk_at dksX1_drawWhy_4 22 rfl rfl)
theorem dX1_drawWhy_118 : decode cX1_drawWhy 118 = .ok (.iload 4, 2) := dk_21 4 (dk_at dksX1_drawWhy_5 0 rfl rfl)
theorem dX1_drawWhy_120 : decode cX1_drawWhy 120 = .ok (.if_icmp .ne 26, 3) := dk_160 0 26 (dk_at dksX1_drawWhy_5 2 rfl rfl)
theorem dX1_drawWhy_123 : decode cX1_drawWhy 123 = .ok (.iload 8, 2) := dk_21 8 (dk_at dksX1_drawWhy_5 5 rfl rfl)
theorem dX1_drawWhy_125 : decode cX1_drawWhy 125 = .ok (.iload_n 2, 1) := dk_28 (dk_at dksX1_drawWhy_5 7 rfl rfl)
theorem dX1_drawWhy_126 : decode cX1_drawWhy 126 = .ok (.if_icmp .ne 20, 3) := dk_160 0 20 (dk_at dksX1_drawWhy_5 8 rfl rfl)
theorem dX1_drawWhy_129 : decode cX1_drawWhy 129 = .ok (.aload_n 0, 1) := dk_42 (dk_at dksX1_drawWhy_5 11 rfl rfl)
theorem dX1_drawWhy_130 : decode cX1_drawWhy 130 = .ok (.aload_n 0, 1) := dk_42 (dk_at dksX1_drawWhy_5 12 rfl rfl)
theorem dX1_drawWhy_131 : decode cX1_drawWhy 131 = .ok (.getfield 33, 3) := dk_180 0 33 (dk_at dksX1_drawWhy_5 13 rfl rfl)
theorem dX1_drawWhy_134 : decode cX1_drawWhy 134 = .ok (.iload 8, 2) := dk_21 8 (dk_at dksX1_drawWhy_5 16 rfl rfl)
theorem dX1_drawWhy_136 : decode cX1_drawWhy 136 = .ok (.iload 7, 2) := dk_21 7 (dk_at dksX1_drawWhy_5 18 rfl rfl)
theorem dX1_drawWhy_138 : decode cX1_drawWhy 138 = .ok (.iload 9, 2) := dk_21 9 (dk_at dksX1_drawWhy_5 20 rfl rfl)
theorem dX1_drawWhy_140 : decode cX1_drawWhy 140 = .ok (.invokevirtual 189, 3) := dk_182 0 189 (dk_at dksX1_drawWhy_6 0 rfl rfl)
theorem dX1_drawWhy_143 : decode cX1_drawWhy 143 = .ok (.putfield 354, 3) := dk_181 1 98 (dk_at dksX1_drawWhy_6 3 rfl rfl)
theorem dX1_drawWhy_146 : decode cX1_drawWhy 146 = .ok (.aload_n 0, 1) := dk_42 (dk_at dksX1_drawWhy_6 6 rfl rfl)
theorem dX1_drawWhy_147 : decode cX1_drawWhy 147 = .ok (.dup, 1) := dk_89 (dk_at dksX1_drawWhy_6 7 rfl rfl)
theorem dX1_drawWhy_148 : decode cX1_drawWhy 148 = .ok (.getfield 351, 3) := dk_180 1 95 (dk_at dksX1_drawWhy_6 8 rfl rfl)
theorem dX1_drawWhy_151 : decode cX1_drawWhy 151 = .ok (.iload 7, 2) := dk_21 7 (dk_at dksX1_drawWhy_6 11 rfl rfl)
theorem dX1_drawWhy_153 : decode cX1_drawWhy 153 = .ok (.iload 4, 2) := dk_21 4 (dk_at dksX1_drawWhy_6 13 rfl rfl)
theorem dX1_drawWhy_155 : decode cX1_drawWhy 155 = .ok (.if_icmp .ge 23, 3) := dk_162 0 23 (dk_at dksX1_drawWhy_6 15 rfl rfl)
theorem dX1_drawWhy_158 : decode cX1_drawWhy 158 = .ok (.aload_n 0, 1) := dk_42 (dk_at dksX1_drawWhy_6 18 rfl rfl)
theorem dX1_drawWhy_159 : decode cX1_drawWhy 159 = .ok (.getfield 33, 3) := dk_180 0 33 (dk_at dksX1_drawWhy_6 19 rfl rfl)
theorem dX1_drawWhy_162 : decode cX1_drawWhy 162 = .ok (.iload 8, 2) := dk_21 8 (dk_at dksX1_drawWhy_6 22 rfl rfl)
theorem dX1_drawWhy_164 : decode cX1_drawWhy 164 = .ok (.iload 7, 2) := dk_21 7 (dk_at dksX1_drawWhy_7 0 rfl rfl)
theorem dX1_drawWhy_166 : decode cX1_drawWhy 166 = .ok (.iload 9, 2) := dk_21 9 (dk_at dksX1_drawWhy_7 2 rfl rfl)
theorem dX1_drawWhy_168 : decode cX1_drawWhy 168 = .ok (.invokevirtual 202, 3) := dk_182 0 202 (dk_at dksX1_drawWhy_7 4 rfl rfl)
theorem dX1_drawWhy_171 : decode cX1_drawWhy 171 = .ok (.ifCond .eq 7, 3) := dk_153 0 7 (dk_at dksX1_drawWhy_7 7 rfl rfl)
theorem dX1_drawWhy_174 : decode cX1_drawWhy 174 = .ok (.iconst 1, 1) := dk_4 (dk_at dksX1_drawWhy_7 10 rfl rfl)
theorem dX1_drawWhy_175 : decode cX1_drawWhy 175 = .ok (.goto 4, 3) := dk_167 0 4 (dk_at dksX1_drawWhy_7 11 rfl rfl)
theorem dX1_drawWhy_178 : decode cX1_drawWhy 178 = .ok (.iconst 0, 1) := dk_3 (dk_at dksX1_drawWhy_7 14 rfl rfl)
theorem dX1_drawWhy_179 : decode cX1_drawWhy 179 = .ok (.iadd, 1) := dk_96 (dk_at dksX1_drawWhy_7 15 rfl rfl)
theorem dX1_drawWhy_180 : decode cX1_drawWhy 180 = .ok (.putfield 351, 3) := dk_181 1 95 (dk_at dksX1_drawWhy_7 16 rfl rfl)
theorem dX1_drawWhy_183 : decode cX1_drawWhy 183 = .ok (.iinc 8 1, 3) := dk_132 8 1 (dk_at dksX1_drawWhy_7 19 rfl rfl)
theorem dX1_drawWhy_186 : decode cX1_drawWhy 186 = .ok (.goto (-118), 3) := dk_167 255 138 (dk_at dksX1_drawWhy_8 0 rfl rfl)
theorem dX1_drawWhy_189 : decode cX1_drawWhy 189 = .ok (.iinc 7 1, 3) := dk_132 7 1 (dk_at dksX1_drawWhy_8 3 rfl rfl)
theorem dX1_drawWhy_192 : decode cX1_drawWhy 192 = .ok (.goto (-134), 3) := dk_167 255 122 (dk_at dksX1_drawWhy_8 6 rfl rfl)
theorem dX1_drawWhy_195 : decode cX1_drawWhy 195 = .ok (.iconst 0, 1) := dk_3 (dk_at dksX1_drawWhy_8 9 rfl rfl)
theorem dX1_drawWhy_196 : decode cX1_drawWhy 196 = .ok (.ireturn, 1) := dk_172 (dk_at dksX1_drawWhy_8 10 rfl rfl)
abbrev cX1_rights : ByteArray := prog_1_method_81_code
def yX1_rights : MethodName := ⟨RX1, "rights", "(II)I"⟩
def dkwX1_rights_1 : List UInt8 := [29, 153, 0, 11, 42, 29, 182, 0, 87, 167, 0, 7, 42, 180, 1, 95, 172]
abbrev dktX1_rights_1 : List UInt8 := dkwX1_rights_1 ++ []
def dkwX1_rights_0 : List UInt8 := [42, 182, 0, 73, 42, 42, 180, 0, 98, 198, 0, 7, 4, 167, 0, 4, 3, 2, 27, 28, 182, 1, 102, 62]
abbrev dktX1_rights_0 : List UInt8 := dkwX1_rights_0 ++ dktX1_rights_1
theorem dksX1_rights_0 : cX1_rights.data.toList.drop 0 = dktX1_rights_0 := by decide +kernel
theorem dksX1_rights_1 : cX1_rights.data.toList.drop 24 = dktX1_rights_1 := dk_seg dksX1_rights_0 24 rfl rfl
theorem dX1_rights_0 : decode cX1_rights 0 = .ok (.aload_n 0, 1) := dk_42 (dk_at dksX1_rights_0 0 rfl rfl)
theorem dX1_rights_1 : decode cX1_rights 1 = .ok (.invokevirtual 73, 3) := dk_182 0 73 (dk_at dksX1_rights_0 1 rfl rfl)
theorem dX1_rights_4 : decode cX1_rights 4 = .ok (.aload_n 0, 1) := dk_42 (dk_at dksX1_rights_0 4 rfl rfl)
theorem dX1_rights_5 : decode cX1_rights 5 = .ok (.aload_n 0, 1) := dk_42 (dk_at dksX1_rights_0 5 rfl rfl)
theorem dX1_rights_6 : decode cX1_rights 6 = .ok (.getfield 98, 3) := dk_180 0 98 (dk_at dksX1_rights_0 6 rfl rfl)
theorem dX1_rights_9 : decode cX1_rights 9 = .ok (.ifnull 7, 3) := dk_198 0 7 (dk_at dksX1_rights_0 9 rfl rfl)
theorem dX1_rights_12 : decode cX1_rights 12 = .ok (.iconst 1, 1) := dk_4 (dk_at dksX1_rights_0 12 rfl rfl)
theorem dX1_rights_13 : decode cX1_rights 13 = .ok (.goto 4, 3) := dk_167 0 4 (dk_at dksX1_rights_0 13 rfl rfl)
theorem dX1_rights_16 : decode cX1_rights 16 = .ok (.iconst 0, 1) := dk_3 (dk_at dksX1_rights_0 16 rfl rfl)
theorem dX1_rights_17 : decode cX1_rights 17 = .ok (.iconst (-1), 1) := dk_2 (dk_at dksX1_rights_0 17 rfl rfl)
theorem dX1_rights_18 : decode cX1_rights 18 = .ok (.iload_n 1, 1) := dk_27 (dk_at dksX1_rights_0 18 rfl rfl)
theorem dX1_rights_19 : decode cX1_rights 19 = .ok (.iload_n 2, 1) := dk_28 (dk_at dksX1_rights_0 19 rfl rfl)
theorem dX1_rights_20 : decode cX1_rights 20 = .ok (.invokevirtual 358, 3) := dk_182 1 102 (dk_at dksX1_rights_0 20 rfl rfl)
theorem dX1_rights_23 : decode cX1_rights 23 = .ok (.istore_n 3, 1) := dk_62 (dk_at dksX1_rights_0 23 rfl rfl)
theorem dX1_rights_24 : decode cX1_rights 24 = .ok (.iload_n 3, 1) := dk_29 (dk_at dksX1_rights_1 0 rfl rfl)
theorem dX1_rights_25 : decode cX1_rights 25 = .ok (.ifCond .eq 11, 3) := dk_153 0 11 (dk_at dksX1_rights_1 1 rfl rfl)
theorem dX1_rights_28 : decode cX1_rights 28 = .ok (.aload_n 0, 1) := dk_42 (dk_at dksX1_rights_1 4 rfl rfl)
theorem dX1_rights_29 : decode cX1_rights 29 = .ok (.iload_n 3, 1) := dk_29 (dk_at dksX1_rights_1 5 rfl rfl)
theorem dX1_rights_30 : decode cX1_rights 30 = .ok (.invokevirtual 87, 3) := dk_182 0 87 (dk_at dksX1_rights_1 6 rfl rfl)
theorem dX1_rights_33 : decode cX1_rights 33 = .ok (.goto 7, 3) := dk_167 0 7 (dk_at dksX1_rights_1 9 rfl rfl)
theorem dX1_rights_36 : decode cX1_rights 36 = .ok (.aload_n 0, 1) := dk_42 (dk_at dksX1_rights_1 12 rfl rfl)
theorem dX1_rights_37 : decode cX1_rights 37 = .ok (.getfield 351, 3) := dk_180 1 95 (dk_at dksX1_rights_1 13 rfl rfl)
theorem dX1_rights_40 : decode cX1_rights 40 = .ok (.ireturn, 1) := dk_172 (dk_at dksX1_rights_1 16 rfl rfl)
abbrev cX1_night : ByteArray := prog_1_method_84_code
def yX1_night : MethodName := ⟨RX1, "night", "()I"⟩
def dkwX1_night_2 : List UInt8 := [96, 181, 0, 143, 42, 182, 1, 109, 87, 42, 180, 0, 33, 42, 180, 0, 33, 180, 0, 143, 182, 0, 196, 172]
abbrev dktX1_night_2 : List UInt8 := dkwX1_night_2 ++ []
def dkwX1_night_1 : List UInt8 := [16, 99, 160, 0, 9, 42, 6, 182, 0, 87, 172, 42, 182, 1, 106, 42, 180, 0, 33, 89, 180, 0, 143, 4]
abbrev dktX1_night_1 : List UInt8 := dkwX1_night_1 ++ dktX1_night_2
def dkwX1_night_0 : List UInt8 := [42, 182, 0, 73, 42, 180, 0, 98, 199, 0, 9, 42, 4, 182, 0, 87, 172, 42, 180, 0, 33, 180, 0, 143]
abbrev dktX1_night_0 : List UInt8 := dkwX1_night_0 ++ dktX1_night_1
theorem dksX1_night_0 : cX1_night.data.toList.drop 0 = dktX1_night_0 := by decide +kernel
theorem dksX1_night_1 : cX1_night.data.toList.drop 24 = dktX1_night_1 := dk_seg dksX1_night_0 24 rfl rfl
theorem dksX1_night_2 : cX1_night.data.toList.drop 48 = dktX1_night_2 := dk_seg dksX1_night_1 24 rfl rfl
theorem dX1_night_0 : decode cX1_night 0 = .ok (.aload_n 0, 1) := dk_42 (dk_at dksX1_night_0 0 rfl rfl)
theorem dX1_night_1 : decode cX1_night 1 = .ok (.invokevirtual 73, 3) := dk_182 0 73 (dk_at dksX1_night_0 1 rfl rfl)
theorem dX1_night_4 : decode cX1_night 4 = .ok (.aload_n 0, 1) := dk_42 (dk_at dksX1_night_0 4 rfl rfl)
theorem dX1_night_5 : decode cX1_night 5 = .ok (.getfield 98, 3) := dk_180 0 98 (dk_at dksX1_night_0 5 rfl rfl)
theorem dX1_night_8 : decode cX1_night 8 = .ok (.ifnonnull 9, 3) := dk_199 0 9 (dk_at dksX1_night_0 8 rfl rfl)
theorem dX1_night_11 : decode cX1_night 11 = .ok (.aload_n 0, 1) := dk_42 (dk_at dksX1_night_0 11 rfl rfl)
theorem dX1_night_12 : decode cX1_night 12 = .ok (.iconst 1, 1) := dk_4 (dk_at dksX1_night_0 12 rfl rfl)
theorem dX1_night_13 : decode cX1_night 13 = .ok (.invokevirtual 87, 3) := dk_182 0 87 (dk_at dksX1_night_0 13 rfl rfl)
theorem dX1_night_16 : decode cX1_night 16 = .ok (.ireturn, 1) := dk_172 (dk_at dksX1_night_0 16 rfl rfl)
theorem dX1_night_17 : decode cX1_night 17 = .ok (.aload_n 0, 1) := dk_42 (dk_at dksX1_night_0 17 rfl rfl)
theorem dX1_night_18 : decode cX1_night 18 = .ok (.getfield 33, 3) := dk_180 0 33 (dk_at dksX1_night_0 18 rfl rfl)
theorem dX1_night_21 : decode cX1_night 21 = .ok (.getfield 143, 3) := dk_180 0 143 (dk_at dksX1_night_0 21 rfl rfl)
theorem dX1_night_24 : decode cX1_night 24 = .ok (.bipush 99, 2) := dk_16 99 (dk_at dksX1_night_1 0 rfl rfl)
theorem dX1_night_26 : decode cX1_night 26 = .ok (.if_icmp .ne 9, 3) := dk_160 0 9 (dk_at dksX1_night_1 2 rfl rfl)
theorem dX1_night_29 : decode cX1_night 29 = .ok (.aload_n 0, 1) := dk_42 (dk_at dksX1_night_1 5 rfl rfl)
theorem dX1_night_30 : decode cX1_night 30 = .ok (.iconst 3, 1) := dk_6 (dk_at dksX1_night_1 6 rfl rfl)
theorem dX1_night_31 : decode cX1_night 31 = .ok (.invokevirtual 87, 3) := dk_182 0 87 (dk_at dksX1_night_1 7 rfl rfl)
theorem dX1_night_34 : decode cX1_night 34 = .ok (.ireturn, 1) := dk_172 (dk_at dksX1_night_1 10 rfl rfl)
theorem dX1_night_35 : decode cX1_night 35 = .ok (.aload_n 0, 1) := dk_42 (dk_at dksX1_night_1 11 rfl rfl)
theorem dX1_night_36 : decode cX1_night 36 = .ok (.invokevirtual 362, 3) := dk_182 1 106 (dk_at dksX1_night_1 12 rfl rfl)
theorem dX1_night_39 : decode cX1_night 39 = .ok (.aload_n 0, 1) := dk_42 (dk_at dksX1_night_1 15 rfl rfl)
theorem dX1_night_40 : decode cX1_night 40 = .ok (.getfield 33, 3) := dk_180 0 33 (dk_at dksX1_night_1 16 rfl rfl)
theorem dX1_night_43 : decode cX1_night 43 = .ok (.dup, 1) := dk_89 (dk_at dksX1_night_1 19 rfl rfl)
theorem dX1_night_44 : decode cX1_night 44 = .ok (.getfield 143, 3) := dk_180 0 143 (dk_at dksX1_night_1 20 rfl rfl)
theorem dX1_night_47 : decode cX1_night 47 = .ok (.iconst 1, 1) := dk_4 (dk_at dksX1_night_1 23 rfl rfl)
theorem dX1_night_48 : decode cX1_night 48 = .ok (.iadd, 1) := dk_96 (dk_at dksX1_night_2 0 rfl rfl)
theorem dX1_night_49 : decode cX1_night 49 = .ok (.putfield 143, 3) := dk_181 0 143 (dk_at dksX1_night_2 1 rfl rfl)
theorem dX1_night_52 : decode cX1_night 52 = .ok (.aload_n 0, 1) := dk_42 (dk_at dksX1_night_2 4 rfl rfl)
theorem dX1_night_53 : decode cX1_night 53 = .ok (.invokevirtual 365, 3) := dk_182 1 109 (dk_at dksX1_night_2 5 rfl rfl)
theorem dX1_night_56 : decode cX1_night 56 = .ok (.pop, 1) := dk_87 (dk_at dksX1_night_2 8 rfl rfl)
theorem dX1_night_57 : decode cX1_night 57 = .ok (.aload_n 0, 1) := dk_42 (dk_at dksX1_night_2 9 rfl rfl)
theorem dX1_night_58 : decode cX1_night 58 = .ok (.getfield 33, 3) := dk_180 0 33 (dk_at dksX1_night_2 10 rfl rfl)
theorem dX1_night_61 : decode cX1_night 61 = .ok (.aload_n 0, 1) := dk_42 (dk_at dksX1_night_2 13 rfl rfl)
theorem dX1_night_62 : decode cX1_night 62 = .ok (.getfield 33, 3) := dk_180 0 33 (dk_at dksX1_night_2 14 rfl rfl)
theorem dX1_night_65 : decode cX1_night 65 = .ok (.getfield 143, 3) := dk_180 0 143 (dk_at dksX1_night_2 17 rfl rfl)
theorem dX1_night_68 : decode cX1_night 68 = .ok (.invokevirtual 196, 3) := dk_182 0 196 (dk_at dksX1_night_2 20 rfl rfl)
theorem dX1_night_71 : decode cX1_night 71 = .ok (.ireturn, 1) := dk_172 (dk_at dksX1_night_2 23 rfl rfl)
abbrev cX1_note : ByteArray := prog_1_method_82_code
def yX1_note : MethodName := ⟨RX1, "note", "()V"⟩
def dkwX1_note_0 : List UInt8 := [42, 180, 0, 37, 42, 180, 0, 33, 182, 0, 215, 87, 177]
abbrev dktX1_note_0 : List UInt8 := dkwX1_note_0 ++ []
theorem dksX1_note_0 : cX1_note.data.toList.drop 0 = dktX1_note_0 := by decide +kernel
theorem dX1_note_0 : decode cX1_note 0 = .ok (.aload_n 0, 1) := dk_42 (dk_at dksX1_note_0 0 rfl rfl)
theorem dX1_note_1 : decode cX1_note 1 = .ok (.getfield 37, 3) := dk_180 0 37 (dk_at dksX1_note_0 1 rfl rfl)
theorem dX1_note_4 : decode cX1_note 4 = .ok (.aload_n 0, 1) := dk_42 (dk_at dksX1_note_0 4 rfl rfl)
theorem dX1_note_5 : decode cX1_note 5 = .ok (.getfield 33, 3) := dk_180 0 33 (dk_at dksX1_note_0 5 rfl rfl)
theorem dX1_note_8 : decode cX1_note 8 = .ok (.invokevirtual 215, 3) := dk_182 0 215 (dk_at dksX1_note_0 8 rfl rfl)
theorem dX1_note_11 : decode cX1_note 11 = .ok (.pop, 1) := dk_87 (dk_at dksX1_note_0 11 rfl rfl)
theorem dX1_note_12 : decode cX1_note 12 = .ok (.return_, 1) := dk_177 (dk_at dksX1_note_0 12 rfl rfl)
abbrev cX1_done : ByteArray := prog_1_method_83_code
def yX1_done : MethodName := ⟨RX1, "done", "()Z"⟩
def dkwX1_done_3 : List UInt8 := [180, 0, 37, 182, 0, 215, 87, 42, 89, 180, 0, 112, 4, 96, 181, 0, 112, 4, 172]
abbrev dktX1_done_3 : List UInt8 := dkwX1_done_3 ++ []
def dkwX1_done_2 : List UInt8 := [16, 15, 43, 83, 42, 89, 180, 0, 112, 4, 100, 181, 0, 112, 42, 180, 0, 50, 42, 180, 0, 112, 50, 42]
abbrev dktX1_done_2 : List UInt8 := dkwX1_done_2 ++ dktX1_done_3
def dkwX1_done_1 : List UInt8 := [42, 180, 0, 50, 28, 4, 100, 42, 180, 0, 50, 28, 50, 83, 132, 2, 1, 167, 255, 233, 42, 180, 0, 50]
abbrev dktX1_done_1 : List UInt8 := dkwX1_done_1 ++ dktX1_done_2
def dkwX1_done_0 : List UInt8 := [42, 180, 0, 112, 16, 16, 160, 0, 56, 42, 180, 0, 50, 3, 50, 76, 4, 61, 28, 16, 16, 162, 0, 23]
abbrev dktX1_done_0 : List UInt8 := dkwX1_done_0 ++ dktX1_done_1
theorem dksX1_done_0 : cX1_done.data.toList.drop 0 = dktX1_done_0 := by decide +kernel
theorem dksX1_done_1 : cX1_done.data.toList.drop 24 = dktX1_done_1 := dk_seg dksX1_done_0 24 rfl rfl
theorem dksX1_done_2 : cX1_done.data.toList.drop 48 = dktX1_done_2 := dk_seg dksX1_done_1 24 rfl rfl
theorem dksX1_done_3 : cX1_done.data.toList.drop 72 = dktX1_done_3 := dk_seg dksX1_done_2 24 rfl rfl
theorem dX1_done_0 : decode cX1_done 0 = .ok (.aload_n 0, 1) := dk_42 (dk_at dksX1_done_0 0 rfl rfl)
theorem dX1_done_1 : decode cX1_done 1 = .ok (.getfield 112, 3) := dk_180 0 112 (dk_at dksX1_done_0 1 rfl rfl)
theorem dX1_done_4 : decode cX1_done 4 = .ok (.bipush 16, 2) := dk_16 16 (dk_at dksX1_done_0 4 rfl rfl)
theorem dX1_done_6 : decode cX1_done 6 = .ok (.if_icmp .ne 56, 3) := dk_160 0 56 (dk_at dksX1_done_0 6 rfl rfl)
theorem dX1_done_9 : decode cX1_done 9 = .ok (.aload_n 0, 1) := dk_42 (dk_at dksX1_done_0 9 rfl rfl)
theorem dX1_done_10 : decode cX1_done 10 = .ok (.getfield 50, 3) := dk_180 0 50 (dk_at dksX1_done_0 10 rfl rfl)
theorem dX1_done_13 : decode cX1_done 13 = .ok (.iconst 0, 1) := dk_3 (dk_at dksX1_done_0 13 rfl rfl)
theorem dX1_done_14 : decode cX1_done 14 = .ok (.aaload, 1) := dk_50 (dk_at dksX1_done_0 14 rfl rfl)
theorem dX1_done_15 : decode cX1_done 15 = .ok (.astore_n 1, 1) := dk_76 (dk_at dksX1_done_0 15 rfl rfl)
theorem dX1_done_16 : decode cX1_done 16 = .ok (.iconst 1, 1) := dk_4 (dk_at dksX1_done_0 16 rfl rfl)
theorem dX1_done_17 : decode cX1_done 17 = .ok (.istore_n 2, 1) := dk_61 (dk_at dksX1_done_0 17 rfl rfl)
theorem dX1_done_18 : decode cX1_done 18 = .ok (.iload_n 2, 1) := dk_28 (dk_at dksX1_done_0 18 rfl rfl)
theorem dX1_done_19 : decode cX1_done 19 = .ok (.bipush 16, 2) := dk_16 16 (dk_at dksX1_done_0 19 rfl rfl)
theorem dX1_done_21 : decode cX1_done 21 = .ok (.if_icmp .ge 23, 3) := dk_162 0 23 (dk_at dksX1_done_0 21 rfl rfl)
theorem dX1_done_24 : decode cX1_done 24 = .ok (.aload_n 0, 1) := dk_42 (dk_at dksX1_done_1 0 rfl rfl)
theorem dX1_done_25 : decode cX1_done 25 = .ok (.getfield 50, 3) := dk_180 0 50 (dk_at dksX1_done_1 1 rfl rfl)
theorem dX1_done_28 : decode cX1_done 28 = .ok (.iload_n 2, 1) := dk_28 (dk_at dksX1_done_1 4 rfl rfl)
theorem dX1_done_29 : decode cX1_done 29 = .ok (.iconst 1, 1) := dk_4 (dk_at dksX1_done_1 5 rfl rfl)
theorem dX1_done_30 : decode cX1_done 30 = .ok (.isub, 1) := dk_100 (dk_at dksX1_done_1 6 rfl rfl)
theorem dX1_done_31 : decode cX1_done 31 = .ok (.aload_n 0, 1) := dk_42 (dk_at dksX1_done_1 7 rfl rfl)
theorem dX1_done_32 : decode cX1_done 32 = .ok (.getfield 50, 3) := dk_180 0 50 (dk_at dksX1_done_1 8 rfl rfl)
theorem dX1_done_35 : decode cX1_done 35 = .ok (.iload_n 2, 1) := dk_28 (dk_at dksX1_done_1 11 rfl rfl)
theorem dX1_done_36 : decode cX1_done 36 = .ok (.aaload, 1) := dk_50 (dk_at dksX1_done_1 12 rfl rfl)
theorem dX1_done_37 : decode cX1_done 37 = .ok (.aastore, 1) := dk_83 (dk_at dksX1_done_1 13 rfl rfl)
theorem dX1_done_38 : decode cX1_done 38 = .ok (.iinc 2 1, 3) := dk_132 2 1 (dk_at dksX1_done_1 14 rfl rfl)
theorem dX1_done_41 : decode cX1_done 41 = .ok (.goto (-23), 3) := dk_167 255 233 (dk_at dksX1_done_1 17 rfl rfl)
theorem dX1_done_44 : decode cX1_done 44 = .ok (.aload_n 0, 1) := dk_42 (dk_at dksX1_done_1 20 rfl rfl)
theorem dX1_done_45 : decode cX1_done 45 = .ok (.getfield 50, 3) := dk_180 0 50 (dk_at dksX1_done_1 21 rfl rfl)
theorem dX1_done_48 : decode cX1_done 48 = .ok (.bipush 15, 2) := dk_16 15 (dk_at dksX1_done_2 0 rfl rfl)
theorem dX1_done_50 : decode cX1_done 50 = .ok (.aload_n 1, 1) := dk_43 (dk_at dksX1_done_2 2 rfl rfl)
theorem dX1_done_51 : decode cX1_done 51 = .ok (.aastore, 1) := dk_83 (dk_at dksX1_done_2 3 rfl rfl)
theorem dX1_done_52 : decode cX1_done 52 = .ok (.aload_n 0, 1) := dk_42 (dk_at dksX1_done_2 4 rfl rfl)
theorem dX1_done_53 : decode cX1_done 53 = .ok (.dup, 1) := dk_89 (dk_at dksX1_done_2 5 rfl rfl)
theorem dX1_done_54 : decode cX1_done 54 = .ok (.getfield 112, 3) := dk_180 0 112 (dk_at dksX1_done_2 6 rfl rfl)
theorem dX1_done_57 : decode cX1_done 57 = .ok (.iconst 1, 1) := dk_4 (dk_at dksX1_done_2 9 rfl rfl)
theorem dX1_done_58 : decode cX1_done 58 = .ok (.isub, 1) := dk_100 (dk_at dksX1_done_2 10 rfl rfl)
theorem dX1_done_59 : decode cX1_done 59 = .ok (.putfield 112, 3) := dk_181 0 112 (dk_at dksX1_done_2 11 rfl rfl)
theorem dX1_done_62 : decode cX1_done 62 = .ok (.aload_n 0, 1) := dk_42 (dk_at dksX1_done_2 14 rfl rfl)
theorem dX1_done_63 : decode cX1_done 63 = .ok (.getfield 50, 3) := dk_180 0 50 (dk_at dksX1_done_2 15 rfl rfl)
theorem dX1_done_66 : decode cX1_done 66 = .ok (.aload_n 0, 1) := dk_42 (dk_at dksX1_done_2 18 rfl rfl)
theorem dX1_done_67 : decode cX1_done 67 = .ok (.getfield 112, 3) := dk_180 0 112 (dk_at dksX1_done_2 19 rfl rfl)
theorem dX1_done_70 : decode cX1_done 70 = .ok (.aaload, 1) := dk_50 (dk_at dksX1_done_2 22 rfl rfl)
theorem dX1_done_71 : decode cX1_done 71 = .ok (.aload_n 0, 1) := dk_42 (dk_at dksX1_done_2 23 rfl rfl)
theorem dX1_done_72 : decode cX1_done 72 = .ok (.getfield 37, 3) := dk_180 0 37 (dk_at dksX1_done_3 0 rfl rfl)
theorem dX1_done_75 : decode cX1_done 75 = .ok (.invokevirtual 215, 3) := dk_182 0 215 (dk_at dksX1_done_3 3 rfl rfl)
theorem dX1_done_78 : decode cX1_done 78 = .ok (.pop, 1) := dk_87 (dk_at dksX1_done_3 6 rfl rfl)
theorem dX1_done_79 : decode cX1_done 79 = .ok (.aload_n 0, 1) := dk_42 (dk_at dksX1_done_3 7 rfl rfl)
theorem dX1_done_80 : decode cX1_done 80 = .ok (.dup, 1) := dk_89 (dk_at dksX1_done_3 8 rfl rfl)
theorem dX1_done_81 : decode cX1_done 81 = .ok (.getfield 112, 3) := dk_180 0 112 (dk_at dksX1_done_3 9 rfl rfl)
theorem dX1_done_84 : decode cX1_done 84 = .ok (.iconst 1, 1) := dk_4 (dk_at dksX1_done_3 12 rfl rfl)
theorem dX1_done_85 : decode cX1_done 85 = .ok (.iadd, 1) := dk_96 (dk_at dksX1_done_3 13 rfl rfl)
theorem dX1_done_86 : decode cX1_done 86 = .ok (.putfield 112, 3) := dk_181 0 112 (dk_at dksX1_done_3 14 rfl rfl)
theorem dX1_done_89 : decode cX1_done 89 = .ok (.iconst 1, 1) := dk_4 (dk_at dksX1_done_3 17 rfl rfl)
theorem dX1_done_90 : decode cX1_done 90 = .ok (.ireturn, 1) := dk_172 (dk_at dksX1_done_3 18 rfl rfl)
abbrev cX1_move : ByteArray := prog_1_method_85_code
def yX1_move : MethodName := ⟨RX1, "move", "(II)I"⟩
def dkwX1_move_3 : List UInt8 := [180, 0, 137, 27, 46, 172]
abbrev dktX1_move_3 : List UInt8 := dkwX1_move_3 ++ []
def dkwX1_move_2 : List UInt8 := [182, 1, 106, 42, 180, 0, 33, 180, 0, 137, 27, 28, 79, 42, 182, 1, 109, 87, 42, 180, 0, 37]
abbrev dktX1_move_2 : List UInt8 := dkwX1_move_2 ++ dktX1_move_3
def dkwX1_move_1 : List UInt8 := [182, 0, 87, 172, 42, 180, 0, 33, 28, 182, 0, 175, 16, 254, 159, 0, 9, 42, 8, 182, 0, 87, 172, 42]
abbrev dktX1_move_1 : List UInt8 := dkwX1_move_1 ++ dktX1_move_2
def dkwX1_move_0 : List UInt8 := [42, 182, 0, 73, 42, 27, 182, 0, 133, 153, 0, 11, 42, 28, 182, 0, 172, 154, 0, 9, 42, 4]
abbrev dktX1_move_0 : List UInt8 := dkwX1_move_0 ++ dktX1_move_1
theorem dksX1_move_0 : cX1_move.data.toList.drop 0 = dktX1_move_0 := by decide +kernel
theorem dksX1_move_1 : cX1_move.data.toList.drop 22 = dktX1_move_1 := dk_seg dksX1_move_0 22 rfl rfl
theorem dksX1_move_2 : cX1_move.data.toList.drop 46 = dktX1_move_2 := dk_seg dksX1_move_1 24 rfl rfl
theorem dksX1_move_3 : cX1_move.data.toList.drop 68 = dktX1_move_3 := dk_seg dksX1_move_2 22 rfl rfl
theorem dX1_move_0 : decode cX1_move 0 = .ok (.aload_n 0, 1) := dk_42 (dk_at dksX1_move_0 0 rfl rfl)
theorem dX1_move_1 : decode cX1_move 1 = .ok (.invokevirtual 73, 3) := dk_182 0 73 (dk_at dksX1_move_0 1 rfl rfl)
theorem dX1_move_4 : decode cX1_move 4 = .ok (.aload_n 0, 1) := dk_42 (dk_at dksX1_move_0 4 rfl rfl)
theorem dX1_move_5 : decode cX1_move 5 = .ok (.iload_n 1, 1) := dk_27 (dk_at dksX1_move_0 5 rfl rfl)
theorem dX1_move_6 : decode cX1_move 6 = .ok (.invokevirtual 133, 3) := dk_182 0 133 (dk_at dksX1_move_0 6 rfl rfl)
theorem dX1_move_9 : decode cX1_move 9 = .ok (.ifCond .eq 11, 3) := dk_153 0 11 (dk_at dksX1_move_0 9 rfl rfl)
theorem dX1_move_12 : decode cX1_move 12 = .ok (.aload_n 0, 1) := dk_42 (dk_at dksX1_move_0 12 rfl rfl)
theorem dX1_move_13 : decode cX1_move 13 = .ok (.iload_n 2, 1) := dk_28 (dk_at dksX1_move_0 13 rfl rfl)
theorem dX1_move_14 : decode cX1_move 14 = .ok (.invokevirtual 172, 3) := dk_182 0 172 (dk_at dksX1_move_0 14 rfl rfl)
theorem dX1_move_17 : decode cX1_move 17 = .ok (.ifCond .ne 9, 3) := dk_154 0 9 (dk_at dksX1_move_0 17 rfl rfl)
theorem dX1_move_20 : decode cX1_move 20 = .ok (.aload_n 0, 1) := dk_42 (dk_at dksX1_move_0 20 rfl rfl)
theorem dX1_move_21 : decode cX1_move 21 = .ok (.iconst 1, 1) := dk_4 (dk_at dksX1_move_0 21 rfl rfl)
theorem dX1_move_22 : decode cX1_move 22 = .ok (.invokevirtual 87, 3) := dk_182 0 87 (dk_at dksX1_move_1 0 rfl rfl)
theorem dX1_move_25 : decode cX1_move 25 = .ok (.ireturn, 1) := dk_172 (dk_at dksX1_move_1 3 rfl rfl)
theorem dX1_move_26 : decode cX1_move 26 = .ok (.aload_n 0, 1) := dk_42 (dk_at dksX1_move_1 4 rfl rfl)
theorem dX1_move_27 : decode cX1_move 27 = .ok (.getfield 33, 3) := dk_180 0 33 (dk_at dksX1_move_1 5 rfl rfl)
theorem dX1_move_30 : decode cX1_move 30 = .ok (.iload_n 2, 1) := dk_28 (dk_at dksX1_move_1 8 rfl rfl)
theorem dX1_move_31 : decode cX1_move 31 = .ok (.invokevirtual 175, 3) := dk_182 0 175 (dk_at dksX1_move_1 9 rfl rfl)
theorem dX1_move_34 : decode cX1_move 34 = .ok (.bipush (-2), 2) := dk_16 254 (dk_at dksX1_move_1 12 rfl rfl)
theorem dX1_move_36 : decode cX1_move 36 = .ok (.if_icmp .eq 9, 3) := dk_159 0 9 (dk_at dksX1_move_1 14 rfl rfl)
theorem dX1_move_39 : decode cX1_move 39 = .ok (.aload_n 0, 1) := dk_42 (dk_at dksX1_move_1 17 rfl rfl)
theorem dX1_move_40 : decode cX1_move 40 = .ok (.iconst 5, 1) := dk_8 (dk_at dksX1_move_1 18 rfl rfl)
theorem dX1_move_41 : decode cX1_move 41 = .ok (.invokevirtual 87, 3) := dk_182 0 87 (dk_at dksX1_move_1 19 rfl rfl)
theorem dX1_move_44 : decode cX1_move 44 = .ok (.ireturn, 1) := dk_172 (dk_at dksX1_move_1 22 rfl rfl)
theorem dX1_move_45 : decode cX1_move 45 = .ok (.aload_n 0, 1) := dk_42 (dk_at dksX1_move_1 23 rfl rfl)
theorem dX1_move_46 : decode cX1_move 46 = .ok (.invokevirtual 362, 3) := dk_182 1 106 (dk_at dksX1_move_2 0 rfl rfl)
theorem dX1_move_49 : decode cX1_move 49 = .ok (.aload_n 0, 1) := dk_42 (dk_at dksX1_move_2 3 rfl rfl)
theorem dX1_move_50 : decode cX1_move 50 = .ok (.getfield 33, 3) := dk_180 0 33 (dk_at dksX1_move_2 4 rfl rfl)
theorem dX1_move_53 : decode cX1_move 53 = .ok (.getfield 137, 3) := dk_180 0 137 (dk_at dksX1_move_2 7 rfl rfl)
theorem dX1_move_56 : decode cX1_move 56 = .ok (.iload_n 1, 1) := dk_27 (dk_at dksX1_move_2 10 rfl rfl)
theorem dX1_move_57 : decode cX1_move 57 = .ok (.iload_n 2, 1) := dk_28 (dk_at dksX1_move_2 11 rfl rfl)
theorem dX1_move_58 : decode cX1_move 58 = .ok (.iastore, 1) := dk_79 (dk_at dksX1_move_2 12 rfl rfl)
theorem dX1_move_59 : decode cX1_move 59 = .ok (.aload_n 0, 1) := dk_42 (dk_at dksX1_move_2 13 rfl rfl)
theorem dX1_move_60 : decode cX1_move 60 = .ok (.invokevirtual 365, 3) := dk_182 1 109 (dk_at dksX1_move_2 14 rfl rfl)
theorem dX1_move_63 : decode cX1_move 63 = .ok (.pop, 1) := dk_87 (dk_at dksX1_move_2 17 rfl rfl)
theorem dX1_move_64 : decode cX1_move 64 = .ok (.aload_n 0, 1) := dk_42 (dk_at dksX1_move_2 18 rfl rfl)
theorem dX1_move_65 : decode cX1_move 65 = .ok (.getfield 37, 3) := dk_180 0 37 (dk_at dksX1_move_2 19 rfl rfl)
theorem dX1_move_68 : decode cX1_move 68 = .ok (.getfield 137, 3) := dk_180 0 137 (dk_at dksX1_move_3 0 rfl rfl)
theorem dX1_move_71 : decode cX1_move 71 = .ok (.iload_n 1, 1) := dk_27 (dk_at dksX1_move_3 3 rfl rfl)
theorem dX1_move_72 : decode cX1_move 72 = .ok (.iaload, 1) := dk_46 (dk_at dksX1_move_3 4 rfl rfl)
theorem dX1_move_73 : decode cX1_move 73 = .ok (.ireturn, 1) := dk_172 (dk_at dksX1_move_3 5 rfl rfl)
abbrev cX1_hang : ByteArray := prog_1_method_87_code
def yX1_hang : MethodName := ⟨RX1, "hang", "(II)Z"⟩
def dkwX1_hang_2 : List UInt8 := [27, 28, 182, 1, 116, 153, 0, 7, 4, 167, 0, 4, 3, 172]
abbrev dktX1_hang_2 : List UInt8 := dkwX1_hang_2 ++ []
def dkwX1_hang_1 : List UInt8 := [180, 0, 33, 180, 0, 169, 27, 46, 28, 160, 0, 7, 8, 167, 0, 4, 3, 182, 1, 113, 153, 0, 16, 42]
abbrev dktX1_hang_1 : List UInt8 := dkwX1_hang_1 ++ dktX1_hang_2
def dkwX1_hang_0 : List UInt8 := [42, 42, 27, 182, 0, 150, 153, 0, 11, 42, 28, 182, 0, 172, 154, 0, 7, 4, 167, 0, 21, 42]
abbrev dktX1_hang_0 : List UInt8 := dkwX1_hang_0 ++ dktX1_hang_1
theorem dksX1_hang_0 : cX1_hang.data.toList.drop 0 = dktX1_hang_0 := by decide +kernel
theorem dksX1_hang_1 : cX1_hang.data.toList.drop 22 = dktX1_hang_1 := dk_seg dksX1_hang_0 22 rfl rfl
theorem dksX1_hang_2 : cX1_hang.data.toList.drop 46 = dktX1_hang_2 := dk_seg dksX1_hang_1 24 rfl rfl
theorem dX1_hang_0 : decode cX1_hang 0 = .ok (.aload_n 0, 1) := dk_42 (dk_at dksX1_hang_0 0 rfl rfl)
theorem dX1_hang_1 : decode cX1_hang 1 = .ok (.aload_n 0, 1) := dk_42 (dk_at dksX1_hang_0 1 rfl rfl)
theorem dX1_hang_2 : decode cX1_hang 2 = .ok (.iload_n 1, 1) := dk_27 (dk_at dksX1_hang_0 2 rfl rfl)
theorem dX1_hang_3 : decode cX1_hang 3 = .ok (.invokevirtual 150, 3) := dk_182 0 150 (dk_at dksX1_hang_0 3 rfl rfl)
theorem dX1_hang_6 : decode cX1_hang 6 = .ok (.ifCond .eq 11, 3) := dk_153 0 11 (dk_at dksX1_hang_0 6 rfl rfl)
theorem dX1_hang_9 : decode cX1_hang 9 = .ok (.aload_n 0, 1) := dk_42 (dk_at dksX1_hang_0 9 rfl rfl)
theorem dX1_hang_10 : decode cX1_hang 10 = .ok (.iload_n 2, 1) := dk_28 (dk_at dksX1_hang_0 10 rfl rfl)
theorem dX1_hang_11 : decode cX1_hang 11 = .ok (.invokevirtual 172, 3) := dk_182 0 172 (dk_at dksX1_hang_0 11 rfl rfl)
theorem dX1_hang_14 : decode cX1_hang 14 = .ok (.ifCond .ne 7, 3) := dk_154 0 7 (dk_at dksX1_hang_0 14 rfl rfl)
theorem dX1_hang_17 : decode cX1_hang 17 = .ok (.iconst 1, 1) := dk_4 (dk_at dksX1_hang_0 17 rfl rfl)
theorem dX1_hang_18 : decode cX1_hang 18 = .ok (.goto 21, 3) := dk_167 0 21 (dk_at dksX1_hang_0 18 rfl rfl)
theorem dX1_hang_21 : decode cX1_hang 21 = .ok (.aload_n 0, 1) := dk_42 (dk_at dksX1_hang_0 21 rfl rfl)
theorem dX1_hang_22 : decode cX1_hang 22 = .ok (.getfield 33, 3) := dk_180 0 33 (dk_at dksX1_hang_1 0 rfl rfl)
theorem dX1_hang_25 : decode cX1_hang 25 = .ok (.getfield 169, 3) := dk_180 0 169 (dk_at dksX1_hang_1 3 rfl rfl)
theorem dX1_hang_28 : decode cX1_hang 28 = .ok (.iload_n 1, 1) := dk_27 (dk_at dksX1_hang_1 6 rfl rfl)
theorem dX1_hang_29 : decode cX1_hang 29 = .ok (.iaload, 1) := dk_46 (dk_at dksX1_hang_1 7 rfl rfl)
theorem dX1_hang_30 : decode cX1_hang 30 = .ok (.iload_n 2, 1) := dk_28 (dk_at dksX1_hang_1 8 rfl rfl)
theorem dX1_hang_31 : decode cX1_hang 31 = .ok (.if_icmp .ne 7, 3) := dk_160 0 7 (dk_at dksX1_hang_1 9 rfl rfl)
theorem dX1_hang_34 : decode cX1_hang 34 = .ok (.iconst 5, 1) := dk_8 (dk_at dksX1_hang_1 12 rfl rfl)
theorem dX1_hang_35 : decode cX1_hang 35 = .ok (.goto 4, 3) := dk_167 0 4 (dk_at dksX1_hang_1 13 rfl rfl)
theorem dX1_hang_38 : decode cX1_hang 38 = .ok (.iconst 0, 1) := dk_3 (dk_at dksX1_hang_1 16 rfl rfl)
theorem dX1_hang_39 : decode cX1_hang 39 = .ok (.invokevirtual 369, 3) := dk_182 1 113 (dk_at dksX1_hang_1 17 rfl rfl)
theorem dX1_hang_42 : decode cX1_hang 42 = .ok (.ifCond .eq 16, 3) := dk_153 0 16 (dk_at dksX1_hang_1 20 rfl rfl)
theorem dX1_hang_45 : decode cX1_hang 45 = .ok (.aload_n 0, 1) := dk_42 (dk_at dksX1_hang_1 23 rfl rfl)
theorem dX1_hang_46 : decode cX1_hang 46 = .ok (.iload_n 1, 1) := dk_27 (dk_at dksX1_hang_2 0 rfl rfl)
theorem dX1_hang_47 : decode cX1_hang 47 = .ok (.iload_n 2, 1) := dk_28 (dk_at dksX1_hang_2 1 rfl rfl)
theorem dX1_hang_48 : decode cX1_hang 48 = .ok (.invokevirtual 372, 3) := dk_182 1 116 (dk_at dksX1_hang_2 2 rfl rfl)
theorem dX1_hang_51 : decode cX1_hang 51 = .ok (.ifCond .eq 7, 3) := dk_153 0 7 (dk_at dksX1_hang_2 5 rfl rfl)
theorem dX1_hang_54 : decode cX1_hang 54 = .ok (.iconst 1, 1) := dk_4 (dk_at dksX1_hang_2 8 rfl rfl)
theorem dX1_hang_55 : decode cX1_hang 55 = .ok (.goto 4, 3) := dk_167 0 4 (dk_at dksX1_hang_2 9 rfl rfl)
theorem dX1_hang_58 : decode cX1_hang 58 = .ok (.iconst 0, 1) := dk_3 (dk_at dksX1_hang_2 12 rfl rfl)
theorem dX1_hang_59 : decode cX1_hang 59 = .ok (.ireturn, 1) := dk_172 (dk_at dksX1_hang_2 13 rfl rfl)
abbrev cX1_yes : ByteArray := prog_1_method_10_code
def yX1_yes : MethodName := ⟨RX1, "yes", "(I)Z"⟩
def dkwX1_yes_0 : List UInt8 := [42, 182, 0, 73, 42, 27, 181, 0, 70, 27, 154, 0, 7, 4, 167, 0, 4, 3, 172]
abbrev dktX1_yes_0 : List UInt8 := dkwX1_yes_0 ++ []
theorem dksX1_yes_0 : cX1_yes.data.toList.drop 0 = dktX1_yes_0 := by decide +kernel
theorem dX1_yes_0 : decode cX1_yes 0 = .ok (.aload_n 0, 1) := dk_42 (dk_at dksX1_yes_0 0 rfl rfl)
theorem dX1_yes_1 : decode cX1_yes 1 = .ok (.invokevirtual 73, 3) := dk_182 0 73 (dk_at dksX1_yes_0 1 rfl rfl)
theorem dX1_yes_4 : decode cX1_yes 4 = .ok (.aload_n 0, 1) := dk_42 (dk_at dksX1_yes_0 4 rfl rfl)
theorem dX1_yes_5 : decode cX1_yes 5 = .ok (.iload_n 1, 1) := dk_27 (dk_at dksX1_yes_0 5 rfl rfl)
theorem dX1_yes_6 : decode cX1_yes 6 = .ok (.putfield 70, 3) := dk_181 0 70 (dk_at dksX1_yes_0 6 rfl rfl)
theorem dX1_yes_9 : decode cX1_yes 9 = .ok (.iload_n 1, 1) := dk_27 (dk_at dksX1_yes_0 9 rfl rfl)
theorem dX1_yes_10 : decode cX1_yes 10 = .ok (.ifCond .ne 7, 3) := dk_154 0 7 (dk_at dksX1_yes_0 10 rfl rfl)
theorem dX1_yes_13 : decode cX1_yes 13 = .ok (.iconst 1, 1) := dk_4 (dk_at dksX1_yes_0 13 rfl rfl)
theorem dX1_yes_14 : decode cX1_yes 14 = .ok (.goto 4, 3) := dk_167 0 4 (dk_at dksX1_yes_0 14 rfl rfl)
theorem dX1_yes_17 : decode cX1_yes 17 = .ok (.iconst 0, 1) := dk_3 (dk_at dksX1_yes_0 17 rfl rfl)
theorem dX1_yes_18 : decode cX1_yes 18 = .ok (.ireturn, 1) := dk_172 (dk_at dksX1_yes_0 18 rfl rfl)
abbrev cX1_hangs : ByteArray := prog_1_method_86_code
def yX1_hangs : MethodName := ⟨RX1, "hangs", "(II)Z"⟩
def dkwX1_hangs_0 : List UInt8 := [42, 182, 1, 106, 42, 180, 0, 33, 180, 0, 169, 27, 28, 79, 42, 182, 1, 109, 172]
abbrev dktX1_hangs_0 : List UInt8 := dkwX1_hangs_0 ++ []
theorem dksX1_hangs_0 : cX1_hangs.data.toList.drop 0 = dktX1_hangs_0 := by decide +kernel
theorem dX1_hangs_0 : decode cX1_hangs 0 = .ok (.aload_n 0, 1) := dk_42 (dk_at dksX1_hangs_0 0 rfl rfl)
theorem dX1_hangs_1 : decode cX1_hangs 1 = .ok (.invokevirtual 362, 3) := dk_182 1 106 (dk_at dksX1_hangs_0 1 rfl rfl)
theorem dX1_hangs_4 : decode cX1_hangs 4 = .ok (.aload_n 0, 1) := dk_42 (dk_at dksX1_hangs_0 4 rfl rfl)
theorem dX1_hangs_5 : decode cX1_hangs 5 = .ok (.getfield 33, 3) := dk_180 0 33 (dk_at dksX1_hangs_0 5 rfl rfl)
theorem dX1_hangs_8 : decode cX1_hangs 8 = .ok (.getfield 169, 3) := dk_180 0 169 (dk_at dksX1_hangs_0 8 rfl rfl)
theorem dX1_hangs_11 : decode cX1_hangs 11 = .ok (.iload_n 1, 1) := dk_27 (dk_at dksX1_hangs_0 11 rfl rfl)
theorem dX1_hangs_12 : decode cX1_hangs 12 = .ok (.iload_n 2, 1) := dk_28 (dk_at dksX1_hangs_0 12 rfl rfl)
theorem dX1_hangs_13 : decode cX1_hangs 13 = .ok (.iastore, 1) := dk_79 (dk_at dksX1_hangs_0 13 rfl rfl)
theorem dX1_hangs_14 : decode cX1_hangs 14 = .ok (.aload_n 0, 1) := dk_42 (dk_at dksX1_hangs_0 14 rfl rfl)
theorem dX1_hangs_15 : decode cX1_hangs 15 = .ok (.invokevirtual 365, 3) := dk_182 1 109 (dk_at dksX1_hangs_0 15 rfl rfl)
theorem dX1_hangs_18 : decode cX1_hangs 18 = .ok (.ireturn, 1) := dk_172 (dk_at dksX1_hangs_0 18 rfl rfl)
abbrev cX1_take : ByteArray := prog_1_method_88_code
def yX1_take : MethodName := ⟨RX1, "take", "(I)Z"⟩
def dkwX1_take_2 : List UInt8 := [4, 167, 0, 4, 3, 172]
abbrev dktX1_take_2 : List UInt8 := dkwX1_take_2 ++ []
def dkwX1_take_1 : List UInt8 := [160, 0, 7, 8, 167, 0, 4, 3, 182, 1, 113, 153, 0, 17, 42, 27, 16, 254, 182, 1, 116, 153, 0, 7]
abbrev dktX1_take_1 : List UInt8 := dkwX1_take_1 ++ dktX1_take_2
def dkwX1_take_0 : List UInt8 := [42, 42, 27, 182, 0, 150, 154, 0, 7, 4, 167, 0, 22, 42, 180, 0, 33, 180, 0, 169, 27, 46, 16, 254]
abbrev dktX1_take_0 : List UInt8 := dkwX1_take_0 ++ dktX1_take_1
theorem dksX1_take_0 : cX1_take.data.toList.drop 0 = dktX1_take_0 := by decide +kernel
theorem dksX1_take_1 : cX1_take.data.toList.drop 24 = dktX1_take_1 := dk_seg dksX1_take_0 24 rfl rfl
theorem dksX1_take_2 : cX1_take.data.toList.drop 48 = dktX1_take_2 := dk_seg dksX1_take_1 24 rfl rfl
theorem dX1_take_0 : decode cX1_take 0 = .ok (.aload_n 0, 1) := dk_42 (dk_at dksX1_take_0 0 rfl rfl)
theorem dX1_take_1 : decode cX1_take 1 = .ok (.aload_n 0, 1) := dk_42 (dk_at dksX1_take_0 1 rfl rfl)
theorem dX1_take_2 : decode cX1_take 2 = .ok (.iload_n 1, 1) := dk_27 (dk_at dksX1_take_0 2 rfl rfl)
theorem dX1_take_3 : decode cX1_take 3 = .ok (.invokevirtual 150, 3) := dk_182 0 150 (dk_at dksX1_take_0 3 rfl rfl)
theorem dX1_take_6 : decode cX1_take 6 = .ok (.ifCond .ne 7, 3) := dk_154 0 7 (dk_at dksX1_take_0 6 rfl rfl)
theorem dX1_take_9 : decode cX1_take 9 = .ok (.iconst 1, 1) := dk_4 (dk_at dksX1_take_0 9 rfl rfl)
theorem dX1_take_10 : decode cX1_take 10 = .ok (.goto 22, 3) := dk_167 0 22 (dk_at dksX1_take_0 10 rfl rfl)
theorem dX1_take_13 : decode cX1_take 13 = .ok (.aload_n 0, 1) := dk_42 (dk_at dksX1_take_0 13 rfl rfl)
theorem dX1_take_14 : decode cX1_take 14 = .ok (.getfield 33, 3) := dk_180 0 33 (dk_at dksX1_take_0 14 rfl rfl)
theorem dX1_take_17 : decode cX1_take 17 = .ok (.getfield 169, 3) := dk_180 0 169 (dk_at dksX1_take_0 17 rfl rfl)
theorem dX1_take_20 : decode cX1_take 20 = .ok (.iload_n 1, 1) := dk_27 (dk_at dksX1_take_0 20 rfl rfl)
theorem dX1_take_21 : decode cX1_take 21 = .ok (.iaload, 1) := dk_46 (dk_at dksX1_take_0 21 rfl rfl)
theorem dX1_take_22 : decode cX1_take 22 = .ok (.bipush (-2), 2) := dk_16 254 (dk_at dksX1_take_0 22 rfl rfl)
theorem dX1_take_24 : decode cX1_take 24 = .ok (.if_icmp .ne 7, 3) := dk_160 0 7 (dk_at dksX1_take_1 0 rfl rfl)
theorem dX1_take_27 : decode cX1_take 27 = .ok (.iconst 5, 1) := dk_8 (dk_at dksX1_take_1 3 rfl rfl)
theorem dX1_take_28 : decode cX1_take 28 = .ok (.goto 4, 3) := dk_167 0 4 (dk_at dksX1_take_1 4 rfl rfl)
theorem dX1_take_31 : decode cX1_take 31 = .ok (.iconst 0, 1) := dk_3 (dk_at dksX1_take_1 7 rfl rfl)
theorem dX1_take_32 : decode cX1_take 32 = .ok (.invokevirtual 369, 3) := dk_182 1 113 (dk_at dksX1_take_1 8 rfl rfl)
theorem dX1_take_35 : decode cX1_take 35 = .ok (.ifCond .eq 17, 3) := dk_153 0 17 (dk_at dksX1_take_1 11 rfl rfl)
theorem dX1_take_38 : decode cX1_take 38 = .ok (.aload_n 0, 1) := dk_42 (dk_at dksX1_take_1 14 rfl rfl)
theorem dX1_take_39 : decode cX1_take 39 = .ok (.iload_n 1, 1) := dk_27 (dk_at dksX1_take_1 15 rfl rfl)
theorem dX1_take_40 : decode cX1_take 40 = .ok (.bipush (-2), 2) := dk_16 254 (dk_at dksX1_take_1 16 rfl rfl)
theorem dX1_take_42 : decode cX1_take 42 = .ok (.invokevirtual 372, 3) := dk_182 1 116 (dk_at dksX1_take_1 18 rfl rfl)
theorem dX1_take_45 : decode cX1_take 45 = .ok (.ifCond .eq 7, 3) := dk_153 0 7 (dk_at dksX1_take_1 21 rfl rfl)
theorem dX1_take_48 : decode cX1_take 48 = .ok (.iconst 1, 1) := dk_4 (dk_at dksX1_take_2 0 rfl rfl)
theorem dX1_take_49 : decode cX1_take 49 = .ok (.goto 4, 3) := dk_167 0 4 (dk_at dksX1_take_2 1 rfl rfl)
theorem dX1_take_52 : decode cX1_take 52 = .ok (.iconst 0, 1) := dk_3 (dk_at dksX1_take_2 4 rfl rfl)
theorem dX1_take_53 : decode cX1_take 53 = .ok (.ireturn, 1) := dk_172 (dk_at dksX1_take_2 5 rfl rfl)
abbrev cX1_teach : ByteArray := prog_1_method_89_code
def yX1_teach : MethodName := ⟨RX1, "teach", "(II)Z"⟩
def dkwX1_teach_2 : List UInt8 := [154, 0, 5, 3, 172, 42, 182, 1, 106, 42, 180, 0, 33, 180, 0, 163, 27, 28, 79, 42, 182, 1, 109, 172]
abbrev dktX1_teach_2 : List UInt8 := dkwX1_teach_2 ++ []
def dkwX1_teach_1 : List UInt8 := [167, 0, 21, 42, 180, 0, 33, 180, 0, 163, 27, 46, 28, 160, 0, 7, 8, 167, 0, 4, 3, 182, 1, 113]
abbrev dktX1_teach_1 : List UInt8 := dkwX1_teach_1 ++ dktX1_teach_2
def dkwX1_teach_0 : List UInt8 := [42, 42, 27, 182, 0, 150, 154, 0, 7, 4, 167, 0, 35, 28, 3, 16, 39, 184, 0, 83, 154, 0, 7, 5]
abbrev dktX1_teach_0 : List UInt8 := dkwX1_teach_0 ++ dktX1_teach_1
theorem dksX1_teach_0 : cX1_teach.data.toList.drop 0 = dktX1_teach_0 := by decide +kernel
theorem dksX1_teach_1 : cX1_teach.data.toList.drop 24 = dktX1_teach_1 := dk_seg dksX1_teach_0 24 rfl rfl
theorem dksX1_teach_2 : cX1_teach.data.toList.drop 48 = dktX1_teach_2 := dk_seg dksX1_teach_1 24 rfl rfl
theorem dX1_teach_0 : decode cX1_teach 0 = .ok (.aload_n 0, 1) := dk_42 (dk_at dksX1_teach_0 0 rfl rfl)
theorem dX1_teach_1 : decode cX1_teach 1 = .ok (.aload_n 0, 1) := dk_42 (dk_at dksX1_teach_0 1 rfl rfl)
theorem dX1_teach_2 : decode cX1_teach 2 = .ok (.iload_n 1, 1) := dk_27 (dk_at dksX1_teach_0 2 rfl rfl)
theorem dX1_teach_3 : decode cX1_teach 3 = .ok (.invokevirtual 150, 3) := dk_182 0 150 (dk_at dksX1_teach_0 3 rfl rfl)
theorem dX1_teach_6 : decode cX1_teach 6 = .ok (.ifCond .ne 7, 3) := dk_154 0 7 (dk_at dksX1_teach_0 6 rfl rfl)
theorem dX1_teach_9 : decode cX1_teach 9 = .ok (.iconst 1, 1) := dk_4 (dk_at dksX1_teach_0 9 rfl rfl)
theorem dX1_teach_10 : decode cX1_teach 10 = .ok (.goto 35, 3) := dk_167 0 35 (dk_at dksX1_teach_0 10 rfl rfl)
theorem dX1_teach_13 : decode cX1_teach 13 = .ok (.iload_n 2, 1) := dk_28 (dk_at dksX1_teach_0 13 rfl rfl)
theorem dX1_teach_14 : decode cX1_teach 14 = .ok (.iconst 0, 1) := dk_3 (dk_at dksX1_teach_0 14 rfl rfl)
theorem dX1_teach_15 : decode cX1_teach 15 = .ok (.bipush 39, 2) := dk_16 39 (dk_at dksX1_teach_0 15 rfl rfl)
theorem dX1_teach_17 : decode cX1_teach 17 = .ok (.invokestatic 83, 3) := dk_184 0 83 (dk_at dksX1_teach_0 17 rfl rfl)
theorem dX1_teach_20 : decode cX1_teach 20 = .ok (.ifCond .ne 7, 3) := dk_154 0 7 (dk_at dksX1_teach_0 20 rfl rfl)
theorem dX1_teach_23 : decode cX1_teach 23 = .ok (.iconst 2, 1) := dk_5 (dk_at dksX1_teach_0 23 rfl rfl)
theorem dX1_teach_24 : decode cX1_teach 24 = .ok (.goto 21, 3) := dk_167 0 21 (dk_at dksX1_teach_1 0 rfl rfl)
theorem dX1_teach_27 : decode cX1_teach 27 = .ok (.aload_n 0, 1) := dk_42 (dk_at dksX1_teach_1 3 rfl rfl)
theorem dX1_teach_28 : decode cX1_teach 28 = .ok (.getfield 33, 3) := dk_180 0 33 (dk_at dksX1_teach_1 4 rfl rfl)
theorem dX1_teach_31 : decode cX1_teach 31 = .ok (.getfield 163, 3) := dk_180 0 163 (dk_at dksX1_teach_1 7 rfl rfl)
theorem dX1_teach_34 : decode cX1_teach 34 = .ok (.iload_n 1, 1) := dk_27 (dk_at dksX1_teach_1 10 rfl rfl)
theorem dX1_teach_35 : decode cX1_teach 35 = .ok (.iaload, 1) := dk_46 (dk_at dksX1_teach_1 11 rfl rfl)
theorem dX1_teach_36 : decode cX1_teach 36 = .ok (.iload_n 2, 1) := dk_28 (dk_at dksX1_teach_1 12 rfl rfl)
theorem dX1_teach_37 : decode cX1_teach 37 = .ok (.if_icmp .ne 7, 3) := dk_160 0 7 (dk_at dksX1_teach_1 13 rfl rfl)
theorem dX1_teach_40 : decode cX1_teach 40 = .ok (.iconst 5, 1) := dk_8 (dk_at dksX1_teach_1 16 rfl rfl)
theorem dX1_teach_41 : decode cX1_teach 41 = .ok (.goto 4, 3) := dk_167 0 4 (dk_at dksX1_teach_1 17 rfl rfl)
theorem dX1_teach_44 : decode cX1_teach 44 = .ok (.iconst 0, 1) := dk_3 (dk_at dksX1_teach_1 20 rfl rfl)
theorem dX1_teach_45 : decode cX1_teach 45 = .ok (.invokevirtual 369, 3) := dk_182 1 113 (dk_at dksX1_teach_1 21 rfl rfl)
theorem dX1_teach_48 : decode cX1_teach 48 = .ok (.ifCond .ne 5, 3) := dk_154 0 5 (dk_at dksX1_teach_2 0 rfl rfl)
theorem dX1_teach_51 : decode cX1_teach 51 = .ok (.iconst 0, 1) := dk_3 (dk_at dksX1_teach_2 3 rfl rfl)
theorem dX1_teach_52 : decode cX1_teach 52 = .ok (.ireturn, 1) := dk_172 (dk_at dksX1_teach_2 4 rfl rfl)
theorem dX1_teach_53 : decode cX1_teach 53 = .ok (.aload_n 0, 1) := dk_42 (dk_at dksX1_teach_2 5 rfl rfl)
theorem dX1_teach_54 : decode cX1_teach 54 = .ok (.invokevirtual 362, 3) := dk_182 1 106 (dk_at dksX1_teach_2 6 rfl rfl)
theorem dX1_teach_57 : decode cX1_teach 57 = .ok (.aload_n 0, 1) := dk_42 (dk_at dksX1_teach_2 9 rfl rfl)
theorem dX1_teach_58 : decode cX1_teach 58 = .ok (.getfield 33, 3) := dk_180 0 33 (dk_at dksX1_teach_2 10 rfl rfl)
theorem dX1_teach_61 : decode cX1_teach 61 = .ok (.getfield 163, 3) := dk_180 0 163 (dk_at dksX1_teach_2 13 rfl rfl)
theorem dX1_teach_64 : decode cX1_teach 64 = .ok (.iload_n 1, 1) := dk_27 (dk_at dksX1_teach_2 16 rfl rfl)
theorem dX1_teach_65 : decode cX1_teach 65 = .ok (.iload_n 2, 1) := dk_28 (dk_at dksX1_teach_2 17 rfl rfl)
theorem dX1_teach_66 : decode cX1_teach 66 = .ok (.iastore, 1) := dk_79 (dk_at dksX1_teach_2 18 rfl rfl)
theorem dX1_teach_67 : decode cX1_teach 67 = .ok (.aload_n 0, 1) := dk_42 (dk_at dksX1_teach_2 19 rfl rfl)
theorem dX1_teach_68 : decode cX1_teach 68 = .ok (.invokevirtual 365, 3) := dk_182 1 109 (dk_at dksX1_teach_2 20 rfl rfl)
theorem dX1_teach_71 : decode cX1_teach 71 = .ok (.ireturn, 1) := dk_172 (dk_at dksX1_teach_2 23 rfl rfl)
abbrev cX1_undo : ByteArray := prog_1_method_90_code
def yX1_undo : MethodName := ⟨RX1, "undo", "()Z"⟩
def dkwX1_undo_2 : List UInt8 := [87, 4, 172]
abbrev dktX1_undo_2 : List UInt8 := dkwX1_undo_2 ++ []
def dkwX1_undo_1 : List UInt8 := [180, 0, 112, 4, 100, 181, 0, 112, 42, 180, 0, 33, 42, 180, 0, 50, 42, 180, 0, 112, 50, 182, 0, 215]
abbrev dktX1_undo_1 : List UInt8 := dkwX1_undo_1 ++ dktX1_undo_2
def dkwX1_undo_0 : List UInt8 := [42, 42, 180, 0, 112, 154, 0, 8, 16, 6, 167, 0, 4, 3, 182, 1, 113, 154, 0, 5, 3, 172, 42, 89]
abbrev dktX1_undo_0 : List UInt8 := dkwX1_undo_0 ++ dktX1_undo_1
theorem dksX1_undo_0 : cX1_undo.data.toList.drop 0 = dktX1_undo_0 := by decide +kernel
theorem dksX1_undo_1 : cX1_undo.data.toList.drop 24 = dktX1_undo_1 := dk_seg dksX1_undo_0 24 rfl rfl
theorem dksX1_undo_2 : cX1_undo.data.toList.drop 48 = dktX1_undo_2 := dk_seg dksX1_undo_1 24 rfl rfl
theorem dX1_undo_0 : decode cX1_undo 0 = .ok (.aload_n 0, 1) := dk_42 (dk_at dksX1_undo_0 0 rfl rfl)
theorem dX1_undo_1 : decode cX1_undo 1 = .ok (.aload_n 0, 1) := dk_42 (dk_at dksX1_undo_0 1 rfl rfl)
theorem dX1_undo_2 : decode cX1_undo 2 = .ok (.getfield 112, 3) := dk_180 0 112 (dk_at dksX1_undo_0 2 rfl rfl)
theorem dX1_undo_5 : decode cX1_undo 5 = .ok (.ifCond .ne 8, 3) := dk_154 0 8 (dk_at dksX1_undo_0 5 rfl rfl)
theorem dX1_undo_8 : decode cX1_undo 8 = .ok (.bipush 6, 2) := dk_16 6 (dk_at dksX1_undo_0 8 rfl rfl)
theorem dX1_undo_10 : decode cX1_undo 10 = .ok (.goto 4, 3) := dk_167 0 4 (dk_at dksX1_undo_0 10 rfl rfl)
theorem dX1_undo_13 : decode cX1_undo 13 = .ok (.iconst 0, 1) := dk_3 (dk_at dksX1_undo_0 13 rfl rfl)
theorem dX1_undo_14 : decode cX1_undo 14 = .ok (.invokevirtual 369, 3) := dk_182 1 113 (dk_at dksX1_undo_0 14 rfl rfl)
theorem dX1_undo_17 : decode cX1_undo 17 = .ok (.ifCond .ne 5, 3) := dk_154 0 5 (dk_at dksX1_undo_0 17 rfl rfl)
theorem dX1_undo_20 : decode cX1_undo 20 = .ok (.iconst 0, 1) := dk_3 (dk_at dksX1_undo_0 20 rfl rfl)
theorem dX1_undo_21 : decode cX1_undo 21 = .ok (.ireturn, 1) := dk_172 (dk_at dksX1_undo_0 21 rfl rfl)
theorem dX1_undo_22 : decode cX1_undo 22 = .ok (.aload_n 0, 1) := dk_42 (dk_at dksX1_undo_0 22 rfl rfl)
theorem dX1_undo_23 : decode cX1_undo 23 = .ok (.dup, 1) := dk_89 (dk_at dksX1_undo_0 23 rfl rfl)
theorem dX1_undo_24 : decode cX1_undo 24 = .ok (.getfield 112, 3) := dk_180 0 112 (dk_at dksX1_undo_1 0 rfl rfl)
theorem dX1_undo_27 : decode cX1_undo 27 = .ok (.iconst 1, 1) := dk_4 (dk_at dksX1_undo_1 3 rfl rfl)
theorem dX1_undo_28 : decode cX1_undo 28 = .ok (.isub, 1) := dk_100 (dk_at dksX1_undo_1 4 rfl rfl)
theorem dX1_undo_29 : decode cX1_undo 29 = .ok (.putfield 112, 3) := dk_181 0 112 (dk_at dksX1_undo_1 5 rfl rfl)
theorem dX1_undo_32 : decode cX1_undo 32 = .ok (.aload_n 0, 1) := dk_42 (dk_at dksX1_undo_1 8 rfl rfl)
theorem dX1_undo_33 : decode cX1_undo 33 = .ok (.getfield 33, 3) := dk_180 0 33 (dk_at dksX1_undo_1 9 rfl rfl)
theorem dX1_undo_36 : decode cX1_undo 36 = .ok (.aload_n 0, 1) := dk_42 (dk_at dksX1_undo_1 12 rfl rfl)
theorem dX1_undo_37 : decode cX1_undo 37 = .ok (.getfield 50, 3) := dk_180 0 50 (dk_at dksX1_undo_1 13 rfl rfl)
theorem dX1_undo_40 : decode cX1_undo 40 = .ok (.aload_n 0, 1) := dk_42 (dk_at dksX1_undo_1 16 rfl rfl)
theorem dX1_undo_41 : decode cX1_undo 41 = .ok (.getfield 112, 3) := dk_180 0 112 (dk_at dksX1_undo_1 17 rfl rfl)
theorem dX1_undo_44 : decode cX1_undo 44 = .ok (.aaload, 1) := dk_50 (dk_at dksX1_undo_1 20 rfl rfl)
theorem dX1_undo_45 : decode cX1_undo 45 = .ok (.invokevirtual 215, 3) := dk_182 0 215 (dk_at dksX1_undo_1 21 rfl rfl)
theorem dX1_undo_48 : decode cX1_undo 48 = .ok (.pop, 1) := dk_87 (dk_at dksX1_undo_2 0 rfl rfl)
theorem dX1_undo_49 : decode cX1_undo 49 = .ok (.iconst 1, 1) := dk_4 (dk_at dksX1_undo_2 1 rfl rfl)
theorem dX1_undo_50 : decode cX1_undo 50 = .ok (.ireturn, 1) := dk_172 (dk_at dksX1_undo_2 2 rfl rfl)
abbrev cX1_image : ByteArray := prog_1_method_91_code
def yX1_image : MethodName := ⟨RX1, "image", "()I"⟩
def dkwX1_image_2 : List UInt8 := [182, 0, 215, 87, 42, 89, 180, 0, 115, 4, 96, 181, 0, 115, 42, 180, 0, 115, 4, 100, 172]
abbrev dktX1_image_2 : List UInt8 := dkwX1_image_2 ++ []
def dkwX1_image_1 : List UInt8 := [160, 0, 9, 42, 6, 182, 0, 87, 172, 42, 180, 0, 54, 42, 180, 0, 115, 50, 42, 180, 0, 33]
abbrev dktX1_image_1 : List UInt8 := dkwX1_image_1 ++ dktX1_image_2
def dkwX1_image_0 : List UInt8 := [42, 182, 0, 73, 42, 180, 0, 98, 199, 0, 9, 42, 4, 182, 0, 87, 172, 42, 180, 0, 115, 6]
abbrev dktX1_image_0 : List UInt8 := dkwX1_image_0 ++ dktX1_image_1
theorem dksX1_image_0 : cX1_image.data.toList.drop 0 = dktX1_image_0 := by decide +kernel
theorem dksX1_image_1 : cX1_image.data.toList.drop 22 = dktX1_image_1 := dk_seg dksX1_image_0 22 rfl rfl
theorem dksX1_image_2 : cX1_image.data.toList.drop 44 = dktX1_image_2 := dk_seg dksX1_image_1 22 rfl rfl
theorem dX1_image_0 : decode cX1_image 0 = .ok (.aload_n 0, 1) := dk_42 (dk_at dksX1_image_0 0 rfl rfl)
theorem dX1_image_1 : decode cX1_image 1 = .ok (.invokevirtual 73, 3) := dk_182 0 73 (dk_at dksX1_image_0 1 rfl rfl)
theorem dX1_image_4 : decode cX1_image 4 = .ok (.aload_n 0, 1) := dk_42 (dk_at dksX1_image_0 4 rfl rfl)
theorem dX1_image_5 : decode cX1_image 5 = .ok (.getfield 98, 3) := dk_180 0 98 (dk_at dksX1_image_0 5 rfl rfl)
theorem dX1_image_8 : decode cX1_image 8 = .ok (.ifnonnull 9, 3) := dk_199 0 9 (dk_at dksX1_image_0 8 rfl rfl)
theorem dX1_image_11 : decode cX1_image 11 = .ok (.aload_n 0, 1) := dk_42 (dk_at dksX1_image_0 11 rfl rfl)
theorem dX1_image_12 : decode cX1_image 12 = .ok (.iconst 1, 1) := dk_4 (dk_at dksX1_image_0 12 rfl rfl)
theorem dX1_image_13 : decode cX1_image 13 = .ok (.invokevirtual 87, 3) := dk_182 0 87 (dk_at dksX1_image_0 13 rfl rfl)
theorem dX1_image_16 : decode cX1_image 16 = .ok (.ireturn, 1) := dk_172 (dk_at dksX1_image_0 16 rfl rfl)
theorem dX1_image_17 : decode cX1_image 17 = .ok (.aload_n 0, 1) := dk_42 (dk_at dksX1_image_0 17 rfl rfl)
theorem dX1_image_18 : decode cX1_image 18 = .ok (.getfield 115, 3) := dk_180 0 115 (dk_at dksX1_image_0 18 rfl rfl)
theorem dX1_image_21 : decode cX1_image 21 = .ok (.iconst 3, 1) := dk_6 (dk_at dksX1_image_0 21 rfl rfl)
theorem dX1_image_22 : decode cX1_image 22 = .ok (.if_icmp .ne 9, 3) := dk_160 0 9 (dk_at dksX1_image_1 0 rfl rfl)
theorem dX1_image_25 : decode cX1_image 25 = .ok (.aload_n 0, 1) := dk_42 (dk_at dksX1_image_1 3 rfl rfl)
theorem dX1_image_26 : decode cX1_image 26 = .ok (.iconst 3, 1) := dk_6 (dk_at dksX1_image_1 4 rfl rfl)
theorem dX1_image_27 : decode cX1_image 27 = .ok (.invokevirtual 87, 3) := dk_182 0 87 (dk_at dksX1_image_1 5 rfl rfl)
theorem dX1_image_30 : decode cX1_image 30 = .ok (.ireturn, 1) := dk_172 (dk_at dksX1_image_1 8 rfl rfl)
theorem dX1_image_31 : decode cX1_image 31 = .ok (.aload_n 0, 1) := dk_42 (dk_at dksX1_image_1 9 rfl rfl)
theorem dX1_image_32 : decode cX1_image 32 = .ok (.getfield 54, 3) := dk_180 0 54 (dk_at dksX1_image_1 10 rfl rfl)
theorem dX1_image_35 : decode cX1_image 35 = .ok (.aload_n 0, 1) := dk_42 (dk_at dksX1_image_1 13 rfl rfl)
theorem dX1_image_36 : decode cX1_image 36 = .ok (.getfield 115, 3) := dk_180 0 115 (dk_at dksX1_image_1 14 rfl rfl)
theorem dX1_image_39 : decode cX1_image 39 = .ok (.aaload, 1) := dk_50 (dk_at dksX1_image_1 17 rfl rfl)
theorem dX1_image_40 : decode cX1_image 40 = .ok (.aload_n 0, 1) := dk_42 (dk_at dksX1_image_1 18 rfl rfl)
theorem dX1_image_41 : decode cX1_image 41 = .ok (.getfield 33, 3) := dk_180 0 33 (dk_at dksX1_image_1 19 rfl rfl)
theorem dX1_image_44 : decode cX1_image 44 = .ok (.invokevirtual 215, 3) := dk_182 0 215 (dk_at dksX1_image_2 0 rfl rfl)
theorem dX1_image_47 : decode cX1_image 47 = .ok (.pop, 1) := dk_87 (dk_at dksX1_image_2 3 rfl rfl)
theorem dX1_image_48 : decode cX1_image 48 = .ok (.aload_n 0, 1) := dk_42 (dk_at dksX1_image_2 4 rfl rfl)
theorem dX1_image_49 : decode cX1_image 49 = .ok (.dup, 1) := dk_89 (dk_at dksX1_image_2 5 rfl rfl)
theorem dX1_image_50 : decode cX1_image 50 = .ok (.getfield 115, 3) := dk_180 0 115 (dk_at dksX1_image_2 6 rfl rfl)
theorem dX1_image_53 : decode cX1_image 53 = .ok (.iconst 1, 1) := dk_4 (dk_at dksX1_image_2 9 rfl rfl)
theorem dX1_image_54 : decode cX1_image 54 = .ok (.iadd, 1) := dk_96 (dk_at dksX1_image_2 10 rfl rfl)
theorem dX1_image_55 : decode cX1_image 55 = .ok (.putfield 115, 3) := dk_181 0 115 (dk_at dksX1_image_2 11 rfl rfl)
theorem dX1_image_58 : decode cX1_image 58 = .ok (.aload_n 0, 1) := dk_42 (dk_at dksX1_image_2 14 rfl rfl)
theorem dX1_image_59 : decode cX1_image 59 = .ok (.getfield 115, 3) := dk_180 0 115 (dk_at dksX1_image_2 15 rfl rfl)
theorem dX1_image_62 : decode cX1_image 62 = .ok (.iconst 1, 1) := dk_4 (dk_at dksX1_image_2 18 rfl rfl)
theorem dX1_image_63 : decode cX1_image 63 = .ok (.isub, 1) := dk_100 (dk_at dksX1_image_2 19 rfl rfl)
theorem dX1_image_64 : decode cX1_image 64 = .ok (.ireturn, 1) := dk_172 (dk_at dksX1_image_2 20 rfl rfl)
abbrev cX1_back : ByteArray := prog_1_method_92_code
def yX1_back : MethodName := ⟨RX1, "back", "(I)Z"⟩
def dkwX1_back_2 : List UInt8 := [4, 172]
abbrev dktX1_back_2 : List UInt8 := dkwX1_back_2 ++ []
def dkwX1_back_1 : List UInt8 := [154, 0, 5, 3, 172, 42, 180, 0, 33, 42, 180, 0, 54, 27, 50, 182, 0, 215, 87, 42, 3, 181, 0, 112]
abbrev dktX1_back_1 : List UInt8 := dkwX1_back_1 ++ dktX1_back_2
def dkwX1_back_0 : List UInt8 := [42, 27, 3, 42, 180, 0, 115, 4, 100, 184, 0, 83, 153, 0, 7, 3, 167, 0, 4, 4, 182, 1, 113]
abbrev dktX1_back_0 : List UInt8 := dkwX1_back_0 ++ dktX1_back_1
theorem dksX1_back_0 : cX1_back.data.toList.drop 0 = dktX1_back_0 := by decide +kernel
theorem dksX1_back_1 : cX1_back.data.toList.drop 23 = dktX1_back_1 := dk_seg dksX1_back_0 23 rfl rfl
theorem dksX1_back_2 : cX1_back.data.toList.drop 47 = dktX1_back_2 := dk_seg dksX1_back_1 24 rfl rfl
theorem dX1_back_0 : decode cX1_back 0 = .ok (.aload_n 0, 1) := dk_42 (dk_at dksX1_back_0 0 rfl rfl)
theorem dX1_back_1 : decode cX1_back 1 = .ok (.iload_n 1, 1) := dk_27 (dk_at dksX1_back_0 1 rfl rfl)
theorem dX1_back_2 : decode cX1_back 2 = .ok (.iconst 0, 1) := dk_3 (dk_at dksX1_back_0 2 rfl rfl)
theorem dX1_back_3 : decode cX1_back 3 = .ok (.aload_n 0, 1) := dk_42 (dk_at dksX1_back_0 3 rfl rfl)
theorem dX1_back_4 : decode cX1_back 4 = .ok (.getfield 115, 3) := dk_180 0 115 (dk_at dksX1_back_0 4 rfl rfl)
theorem dX1_back_7 : decode cX1_back 7 = .ok (.iconst 1, 1) := dk_4 (dk_at dksX1_back_0 7 rfl rfl)
theorem dX1_back_8 : decode cX1_back 8 = .ok (.isub, 1) := dk_100 (dk_at dksX1_back_0 8 rfl rfl)
theorem dX1_back_9 : decode cX1_back 9 = .ok (.invokestatic 83, 3) := dk_184 0 83 (dk_at dksX1_back_0 9 rfl rfl)
theorem dX1_back_12 : decode cX1_back 12 = .ok (.ifCond .eq 7, 3) := dk_153 0 7 (dk_at dksX1_back_0 12 rfl rfl)
theorem dX1_back_15 : decode cX1_back 15 = .ok (.iconst 0, 1) := dk_3 (dk_at dksX1_back_0 15 rfl rfl)
theorem dX1_back_16 : decode cX1_back 16 = .ok (.goto 4, 3) := dk_167 0 4 (dk_at dksX1_back_0 16 rfl rfl)
theorem dX1_back_19 : decode cX1_back 19 = .ok (.iconst 1, 1) := dk_4 (dk_at dksX1_back_0 19 rfl rfl)
theorem dX1_back_20 : decode cX1_back 20 = .ok (.invokevirtual 369, 3) := dk_182 1 113 (dk_at dksX1_back_0 20 rfl rfl)
theorem dX1_back_23 : decode cX1_back 23 = .ok (.ifCond .ne 5, 3) := dk_154 0 5 (dk_at dksX1_back_1 0 rfl rfl)
theorem dX1_back_26 : decode cX1_back 26 = .ok (.iconst 0, 1) := dk_3 (dk_at dksX1_back_1 3 rfl rfl)
theorem dX1_back_27 : decode cX1_back 27 = .ok (.ireturn, 1) := dk_172 (dk_at dksX1_back_1 4 rfl rfl)
theorem dX1_back_28 : decode cX1_back 28 = .ok (.aload_n 0, 1) := dk_42 (dk_at dksX1_back_1 5 rfl rfl)
theorem dX1_back_29 : decode cX1_back 29 = .ok (.getfield 33, 3) := dk_180 0 33 (dk_at dksX1_back_1 6 rfl rfl)
theorem dX1_back_32 : decode cX1_back 32 = .ok (.aload_n 0, 1) := dk_42 (dk_at dksX1_back_1 9 rfl rfl)
theorem dX1_back_33 : decode cX1_back 33 = .ok (.getfield 54, 3) := dk_180 0 54 (dk_at dksX1_back_1 10 rfl rfl)
theorem dX1_back_36 : decode cX1_back 36 = .ok (.iload_n 1, 1) := dk_27 (dk_at dksX1_back_1 13 rfl rfl)
theorem dX1_back_37 : decode cX1_back 37 = .ok (.aaload, 1) := dk_50 (dk_at dksX1_back_1 14 rfl rfl)
theorem dX1_back_38 : decode cX1_back 38 = .ok (.invokevirtual 215, 3) := dk_182 0 215 (dk_at dksX1_back_1 15 rfl rfl)
theorem dX1_back_41 : decode cX1_back 41 = .ok (.pop, 1) := dk_87 (dk_at dksX1_back_1 18 rfl rfl)
theorem dX1_back_42 : decode cX1_back 42 = .ok (.aload_n 0, 1) := dk_42 (dk_at dksX1_back_1 19 rfl rfl)
theorem dX1_back_43 : decode cX1_back 43 = .ok (.iconst 0, 1) := dk_3 (dk_at dksX1_back_1 20 rfl rfl)
theorem dX1_back_44 : decode cX1_back 44 = .ok (.putfield 112, 3) := dk_181 0 112 (dk_at dksX1_back_1 21 rfl rfl)
theorem dX1_back_47 : decode cX1_back 47 = .ok (.iconst 1, 1) := dk_4 (dk_at dksX1_back_2 0 rfl rfl)
theorem dX1_back_48 : decode cX1_back 48 = .ok (.ireturn, 1) := dk_172 (dk_at dksX1_back_2 1 rfl rfl)
abbrev cX1_size : ByteArray := prog_1_method_94_code
def yX1_size : MethodName := ⟨RX1, "size", "(I)I"⟩
def dkwX1_size_6 : List UInt8 := [180, 0, 115, 172, 2, 172]
abbrev dktX1_size_6 : List UInt8 := dkwX1_size_6 ++ []
def dkwX1_size_5 : List UInt8 := [42, 180, 0, 98, 180, 1, 17, 172, 42, 180, 0, 33, 180, 0, 143, 172, 42, 180, 0, 112, 172, 42]
abbrev dktX1_size_5 : List UInt8 := dkwX1_size_5 ++ dktX1_size_6
def dkwX1_size_4 : List UInt8 := [42, 180, 0, 98, 180, 0, 123, 172, 42, 180, 0, 33, 182, 1, 122, 172, 42, 180, 0, 98, 180, 1, 8, 172]
abbrev dktX1_size_4 : List UInt8 := dkwX1_size_4 ++ dktX1_size_5
def dkwX1_size_3 : List UInt8 := [42, 180, 0, 98, 180, 0, 126, 172, 42, 180, 0, 98, 180, 1, 72, 172, 42, 180, 0, 98, 180, 0, 118, 172]
abbrev dktX1_size_3 : List UInt8 := dkwX1_size_3 ++ dktX1_size_4
def dkwX1_size_2 : List UInt8 := [170, 0, 0, 0, 127, 0, 0, 0, 0, 0, 0, 0, 9, 0, 0, 0, 53, 0, 0, 0, 61, 0, 0, 0, 69, 0, 0, 0, 77, 0, 0, 0, 85, 0, 0, 0, 93, 0, 0, 0, 101, 0, 0, 0, 109, 0, 0, 0, 117, 0, 0, 0, 122]
abbrev dktX1_size_2 : List UInt8 := dkwX1_size_2 ++ dktX1_size_3
def dkwX1_size_1 : List UInt8 := [184, 0, 83, 153, 0, 7, 3, 167, 0, 4, 2, 172, 27]
abbrev dktX1_size_1 : List UInt8 := dkwX1_size_1 ++ dktX1_size_2
def dkwX1_size_0 : List UInt8 := [27, 16, 10, 160, 0, 8, 42, 180, 0, 76, 172, 42, 180, 0, 98, 199, 0, 19, 27, 3, 16, 9]
abbrev dktX1_size_0 : List UInt8 := dkwX1_size_0 ++ dktX1_size_1
theorem dksX1_size_0 : cX1_size.data.toList.drop 0 = dktX1_size_0 := by decide +kernel
theorem dksX1_size_1 : cX1_size.data.toList.drop 22 = dktX1_size_1 := dk_seg dksX1_size_0 22 rfl rfl
theorem dksX1_size_2 : cX1_size.data.toList.drop 35 = dktX1_size_2 := dk_seg dksX1_size_1 13 rfl rfl
theorem dksX1_size_3 : cX1_size.data.toList.drop 88 = dktX1_size_3 := dk_seg dksX1_size_2 53 rfl rfl
theorem dksX1_size_4 : cX1_size.data.toList.drop 112 = dktX1_size_4 := dk_seg dksX1_size_3 24 rfl rfl
theorem dksX1_size_5 : cX1_size.data.toList.drop 136 = dktX1_size_5 := dk_seg dksX1_size_4 24 rfl rfl
theorem dksX1_size_6 : cX1_size.data.toList.drop 158 = dktX1_size_6 := dk_seg dksX1_size_5 22 rfl rfl
theorem dX1_size_0 : decode cX1_size 0 = .ok (.iload_n 1, 1) := dk_27 (dk_at dksX1_size_0 0 rfl rfl)
theorem dX1_size_1 : decode cX1_size 1 = .ok (.bipush 10, 2) := dk_16 10 (dk_at dksX1_size_0 1 rfl rfl)
theorem dX1_size_3 : decode cX1_size 3 = .ok (.if_icmp .ne 8, 3) := dk_160 0 8 (dk_at dksX1_size_0 3 rfl rfl)
theorem dX1_size_6 : decode cX1_size 6 = .ok (.aload_n 0, 1) := dk_42 (dk_at dksX1_size_0 6 rfl rfl)
theorem dX1_size_7 : decode cX1_size 7 = .ok (.getfield 76, 3) := dk_180 0 76 (dk_at dksX1_size_0 7 rfl rfl)
theorem dX1_size_10 : decode cX1_size 10 = .ok (.ireturn, 1) := dk_172 (dk_at dksX1_size_0 10 rfl rfl)
theorem dX1_size_11 : decode cX1_size 11 = .ok (.aload_n 0, 1) := dk_42 (dk_at dksX1_size_0 11 rfl rfl)
theorem dX1_size_12 : decode cX1_size 12 = .ok (.getfield 98, 3) := dk_180 0 98 (dk_at dksX1_size_0 12 rfl rfl)
theorem dX1_size_15 : decode cX1_size 15 = .ok (.ifnonnull 19, 3) := dk_199 0 19 (dk_at dksX1_size_0 15 rfl rfl)
theorem dX1_size_18 : decode cX1_size 18 = .ok (.iload_n 1, 1) := dk_27 (dk_at dksX1_size_0 18 rfl rfl)
theorem dX1_size_19 : decode cX1_size 19 = .ok (.iconst 0, 1) := dk_3 (dk_at dksX1_size_0 19 rfl rfl)
theorem dX1_size_20 : decode cX1_size 20 = .ok (.bipush 9, 2) := dk_16 9 (dk_at dksX1_size_0 20 rfl rfl)
theorem dX1_size_22 : decode cX1_size 22 = .ok (.invokestatic 83, 3) := dk_184 0 83 (dk_at dksX1_size_1 0 rfl rfl)
theorem dX1_size_25 : decode cX1_size 25 = .ok (.ifCond .eq 7, 3) := dk_153 0 7 (dk_at dksX1_size_1 3 rfl rfl)
theorem dX1_size_28 : decode cX1_size 28 = .ok (.iconst 0, 1) := dk_3 (dk_at dksX1_size_1 6 rfl rfl)
theorem dX1_size_29 : decode cX1_size 29 = .ok (.goto 4, 3) := dk_167 0 4 (dk_at dksX1_size_1 7 rfl rfl)
theorem dX1_size_32 : decode cX1_size 32 = .ok (.iconst (-1), 1) := dk_2 (dk_at dksX1_size_1 10 rfl rfl)
theorem dX1_size_33 : decode cX1_size 33 = .ok (.ireturn, 1) := dk_172 (dk_at dksX1_size_1 11 rfl rfl)
theorem dX1_size_34 : decode cX1_size 34 = .ok (.iload_n 1, 1) := dk_27 (dk_at dksX1_size_1 12 rfl rfl)
theorem dX1_size_35 : decode cX1_size 35 = .ok (.tableswitch 127 0 9 #[53, 61, 69, 77, 85, 93, 101, 109, 117, 122], 53) := by decide +kernel
theorem dX1_size_88 : decode cX1_size 88 = .ok (.aload_n 0, 1) := dk_42 (dk_at dksX1_size_3 0 rfl rfl)
theorem dX1_size_89 : decode cX1_size 89 = .ok (.getfield 98, 3) := dk_180 0 98 (dk_at dksX1_size_3 1 rfl rfl)
theorem dX1_size_92 : decode cX1_size 92 = .ok (.getfield 126, 3) := dk_180 0 126 (dk_at dksX1_size_3 4 rfl rfl)
theorem dX1_size_95 : decode cX1_size 95 = .ok (.ireturn, 1) := dk_172 (dk_at dksX1_size_3 7 rfl rfl)
theorem dX1_size_96 : decode cX1_size 96 = .ok (.aload_n 0, 1) := dk_42 (dk_at dksX1_size_3 8 rfl rfl)
theorem dX1_size_97 : decode cX1_size 97 = .ok (.getfield 98, 3) := dk_180 0 98 (dk_at dksX1_size_3 9 rfl rfl)
theorem dX1_size_100 : decode cX1_size 100 = .ok (.getfield 328, 3) := dk_180 1 72 (dk_at dksX1_size_3 12 rfl rfl)
theorem dX1_size_103 : decode cX1_size 103 = .ok (.ireturn, 1) := dk_172 (dk_at dksX1_size_3 15 rfl rfl)
theorem dX1_size_104 : decode cX1_size 104 = .ok (.aload_n 0, 1) := dk_42 (dk_at dksX1_size_3 16 rfl rfl)
theorem dX1_size_105 : decode cX1_size 105 = .ok (.getfield 98, 3) := dk_180 0 98 (dk_at dksX1_size_3 17 rfl rfl)
theorem dX1_size_108 : decode cX1_size 108 = .ok (.getfield 118, 3) := dk_180 0 118 (dk_at dksX1_size_3 20 rfl rfl)
theorem dX1_size_111 : decode cX1_size 111 = .ok (.ireturn, 1) := dk_172 (dk_at dksX1_size_3 23 rfl rfl)
theorem dX1_size_112 : decode cX1_size 112 = .ok (.aload_n 0, 1) := dk_42 (dk_at dksX1_size_4 0 rfl rfl)
theorem dX1_size_113 : decode cX1_size 113 = .ok (.getfield 98, 3) := dk_180 0 98 (dk_at dksX1_size_4 1 rfl rfl)
theorem dX1_size_116 : decode cX1_size 116 = .ok (.getfield 123, 3) := dk_180 0 123 (dk_at dksX1_size_4 4 rfl rfl)
theorem dX1_size_119 : decode cX1_size 119 = .ok (.ireturn, 1) := dk_172 (dk_at dksX1_size_4 7 rfl rfl)
theorem dX1_size_120 : decode cX1_size 120 = .ok (.aload_n 0, 1) := dk_42 (dk_at dksX1_size_4 8 rfl rfl)
theorem dX1_size_121 : decode cX1_size 121 = .ok (.getfield 33, 3) := dk_180 0 33 (dk_at dksX1_size_4 9 rfl rfl)
theorem dX1_size_124 : decode cX1_size 124 = .ok (.invokevirtual 378, 3) := dk_182 1 122 (dk_at dksX1_size_4 12 rfl rfl)
theorem dX1_size_127 : decode cX1_size 127 = .ok (.ireturn, 1) := dk_172 (dk_at dksX1_size_4 15 rfl rfl)
theorem dX1_size_128 : decode cX1_size 128 = .ok (.aload_n 0, 1) := dk_42 (dk_at dksX1_size_4 16 rfl rfl)
theorem dX1_size_129 : decode cX1_size 129 = .ok (.getfield 98, 3) := dk_180 0 98 (dk_at dksX1_size_4 17 rfl rfl)
theorem dX1_size_132 : decode cX1_size 132 = .ok (.getfield 264, 3) := dk_180 1 8 (dk_at dksX1_size_4 20 rfl rfl)
theorem dX1_size_135 : decode cX1_size 135 = .ok (.ireturn, 1) := dk_172 (dk_at dksX1_size_4 23 rfl rfl)
theorem dX1_size_136 : decode cX1_size 136 = .ok (.aload_n 0, 1) := dk_42 (dk_at dksX1_size_5 0 rfl rfl)
theorem dX1_size_137 : decode cX1_size 137 = .ok (.getfield 98, 3) := dk_180 0 98 (dk_at dksX1_size_5 1 rfl rfl)
theorem dX1_size_140 : decode cX1_size 140 = .ok (.getfield 273, 3) := dk_180 1 17 (dk_at dksX1_size_5 4 rfl rfl)
theorem dX1_size_143 : decode cX1_size 143 = .ok (.ireturn, 1) := dk_172 (dk_at dksX1_size_5 7 rfl rfl)
theorem dX1_size_144 : decode cX1_size 144 = .ok (.aload_n 0, 1) := dk_42 (dk_at dksX1_size_5 8 rfl rfl)
theorem dX1_size_145 : decode cX1_size 145 = .ok (.getfield 33, 3) := dk_180 0 33 (dk_at dksX1_size_5 9 rfl rfl)
theorem dX1_size_148 : decode cX1_size 148 = .ok (.getfield 143, 3) := dk_180 0 143 (dk_at dksX1_size_5 12 rfl rfl)
theorem dX1_size_151 : decode cX1_size 151 = .ok (.ireturn, 1) := dk_172 (dk_at dksX1_size_5 15 rfl rfl)
theorem dX1_size_152 : decode cX1_size 152 = .ok (.aload_n 0, 1) := dk_42 (dk_at dksX1_size_5 16 rfl rfl)
theorem dX1_size_153 : decode cX1_size 153 = .ok (.getfield 112, 3) := dk_180 0 112 (dk_at dksX1_size_5 17 rfl rfl)
theorem dX1_size_156 : decode cX1_size 156 = .ok (.ireturn, 1) := dk_172 (dk_at dksX1_size_5 20 rfl rfl)
theorem dX1_size_157 : decode cX1_size 157 = .ok (.aload_n 0, 1) := dk_42 (dk_at dksX1_size_5 21 rfl rfl)
theorem dX1_size_158 : decode cX1_size 158 = .ok (.getfield 115, 3) := dk_180 0 115 (dk_at dksX1_size_6 0 rfl rfl)
theorem dX1_size_161 : decode cX1_size 161 = .ok (.ireturn, 1) := dk_172 (dk_at dksX1_size_6 3 rfl rfl)
theorem dX1_size_162 : decode cX1_size 162 = .ok (.iconst (-1), 1) := dk_2 (dk_at dksX1_size_6 4 rfl rfl)
theorem dX1_size_163 : decode cX1_size 163 = .ok (.ireturn, 1) := dk_172 (dk_at dksX1_size_6 5 rfl rfl)
abbrev cX1_trouble : ByteArray := prog_1_method_95_code
def yX1_trouble : MethodName := ⟨RX1, "trouble", "()I"⟩
theorem dX1_trouble_0 : decode cX1_trouble 0 = .ok (.aload_n 0, 1) := by decide +kernel
theorem dX1_trouble_1 : decode cX1_trouble 1 = .ok (.getfield 70, 3) := by decide +kernel
theorem dX1_trouble_4 : decode cX1_trouble 4 = .ok (.ireturn, 1) := by decide +kernel
abbrev cX1_led : ByteArray := prog_1_method_93_code
def yX1_led : MethodName := ⟨RX1, "led", "(I)I"⟩
def dkwX1_led_2 : List UInt8 := [160, 0, 5, 29, 172, 132, 2, 1, 132, 3, 1, 167, 255, 203, 187, 1, 119, 89, 183, 1, 121, 191]
abbrev dktX1_led_2 : List UInt8 := dkwX1_led_2 ++ []
def dkwX1_led_1 : List UInt8 := [180, 0, 33, 29, 42, 180, 0, 33, 180, 0, 143, 3, 182, 0, 202, 153, 0, 6, 167, 0, 13, 28, 27]
abbrev dktX1_led_1 : List UInt8 := dkwX1_led_1 ++ dktX1_led_2
def dkwX1_led_0 : List UInt8 := [3, 61, 3, 62, 42, 180, 0, 98, 198, 0, 52, 29, 42, 180, 0, 98, 180, 0, 123, 162, 0, 41, 42]
abbrev dktX1_led_0 : List UInt8 := dkwX1_led_0 ++ dktX1_led_1
theorem dksX1_led_0 : cX1_led.data.toList.drop 0 = dktX1_led_0 := by decide +kernel
theorem dksX1_led_1 : cX1_led.data.toList.drop 23 = dktX1_led_1 := dk_seg dksX1_led_0 23 rfl rfl
theorem dksX1_led_2 : cX1_led.data.toList.drop 46 = dktX1_led_2 := dk_seg dksX1_led_1 23 rfl rfl
theorem dX1_led_0 : decode cX1_led 0 = .ok (.iconst 0, 1) := dk_3 (dk_at dksX1_led_0 0 rfl rfl)
theorem dX1_led_1 : decode cX1_led 1 = .ok (.istore_n 2, 1) := dk_61 (dk_at dksX1_led_0 1 rfl rfl)
theorem dX1_led_2 : decode cX1_led 2 = .ok (.iconst 0, 1) := dk_3 (dk_at dksX1_led_0 2 rfl rfl)
theorem dX1_led_3 : decode cX1_led 3 = .ok (.istore_n 3, 1) := dk_62 (dk_at dksX1_led_0 3 rfl rfl)
theorem dX1_led_4 : decode cX1_led 4 = .ok (.aload_n 0, 1) := dk_42 (dk_at dksX1_led_0 4 rfl rfl)
theorem dX1_led_5 : decode cX1_led 5 = .ok (.getfield 98, 3) := dk_180 0 98 (dk_at dksX1_led_0 5 rfl rfl)
theorem dX1_led_8 : decode cX1_led 8 = .ok (.ifnull 52, 3) := dk_198 0 52 (dk_at dksX1_led_0 8 rfl rfl)
theorem dX1_led_11 : decode cX1_led 11 = .ok (.iload_n 3, 1) := dk_29 (dk_at dksX1_led_0 11 rfl rfl)
theorem dX1_led_12 : decode cX1_led 12 = .ok (.aload_n 0, 1) := dk_42 (dk_at dksX1_led_0 12 rfl rfl)
theorem dX1_led_13 : decode cX1_led 13 = .ok (.getfield 98, 3) := dk_180 0 98 (dk_at dksX1_led_0 13 rfl rfl)
theorem dX1_led_16 : decode cX1_led 16 = .ok (.getfield 123, 3) := dk_180 0 123 (dk_at dksX1_led_0 16 rfl rfl)
theorem dX1_led_19 : decode cX1_led 19 = .ok (.if_icmp .ge 41, 3) := dk_162 0 41 (dk_at dksX1_led_0 19 rfl rfl)
theorem dX1_led_22 : decode cX1_led 22 = .ok (.aload_n 0, 1) := dk_42 (dk_at dksX1_led_0 22 rfl rfl)
theorem dX1_led_23 : decode cX1_led 23 = .ok (.getfield 33, 3) := dk_180 0 33 (dk_at dksX1_led_1 0 rfl rfl)
theorem dX1_led_26 : decode cX1_led 26 = .ok (.iload_n 3, 1) := dk_29 (dk_at dksX1_led_1 3 rfl rfl)
theorem dX1_led_27 : decode cX1_led 27 = .ok (.aload_n 0, 1) := dk_42 (dk_at dksX1_led_1 4 rfl rfl)
theorem dX1_led_28 : decode cX1_led 28 = .ok (.getfield 33, 3) := dk_180 0 33 (dk_at dksX1_led_1 5 rfl rfl)
theorem dX1_led_31 : decode cX1_led 31 = .ok (.getfield 143, 3) := dk_180 0 143 (dk_at dksX1_led_1 8 rfl rfl)
theorem dX1_led_34 : decode cX1_led 34 = .ok (.iconst 0, 1) := dk_3 (dk_at dksX1_led_1 11 rfl rfl)
theorem dX1_led_35 : decode cX1_led 35 = .ok (.invokevirtual 202, 3) := dk_182 0 202 (dk_at dksX1_led_1 12 rfl rfl)
theorem dX1_led_38 : decode cX1_led 38 = .ok (.ifCond .eq 6, 3) := dk_153 0 6 (dk_at dksX1_led_1 15 rfl rfl)
theorem dX1_led_41 : decode cX1_led 41 = .ok (.goto 13, 3) := dk_167 0 13 (dk_at dksX1_led_1 18 rfl rfl)
theorem dX1_led_44 : decode cX1_led 44 = .ok (.iload_n 2, 1) := dk_28 (dk_at dksX1_led_1 21 rfl rfl)
theorem dX1_led_45 : decode cX1_led 45 = .ok (.iload_n 1, 1) := dk_27 (dk_at dksX1_led_1 22 rfl rfl)
theorem dX1_led_46 : decode cX1_led 46 = .ok (.if_icmp .ne 5, 3) := dk_160 0 5 (dk_at dksX1_led_2 0 rfl rfl)
theorem dX1_led_49 : decode cX1_led 49 = .ok (.iload_n 3, 1) := dk_29 (dk_at dksX1_led_2 3 rfl rfl)
theorem dX1_led_50 : decode cX1_led 50 = .ok (.ireturn, 1) := dk_172 (dk_at dksX1_led_2 4 rfl rfl)
theorem dX1_led_51 : decode cX1_led 51 = .ok (.iinc 2 1, 3) := dk_132 2 1 (dk_at dksX1_led_2 5 rfl rfl)
theorem dX1_led_54 : decode cX1_led 54 = .ok (.iinc 3 1, 3) := dk_132 3 1 (dk_at dksX1_led_2 8 rfl rfl)
theorem dX1_led_57 : decode cX1_led 57 = .ok (.goto (-53), 3) := dk_167 255 203 (dk_at dksX1_led_2 11 rfl rfl)
theorem dX1_led_60 : decode cX1_led 60 = .ok (.new 375, 3) := dk_187 1 119 (dk_at dksX1_led_2 14 rfl rfl)
theorem dX1_led_63 : decode cX1_led 63 = .ok (.dup, 1) := dk_89 (dk_at dksX1_led_2 17 rfl rfl)
theorem dX1_led_64 : decode cX1_led 64 = .ok (.invokespecial 377, 3) := dk_183 1 121 (dk_at dksX1_led_2 18 rfl rfl)
theorem dX1_led_67 : decode cX1_led 67 = .ok (.athrow, 1) := dk_191 (dk_at dksX1_led_2 21 rfl rfl)
theorem q118 : (Jvm.Cond.initialized "SeanceStreet") ∈ lw_all := lw_g (lw_at lw_m1 1 rfl) rfl
theorem q145 : (Jvm.Cond.instantiable "SeanceStreet" (30 : Nat)) ∈ lw_all := lw_g (lw_at lw_m1 28 rfl) rfl
theorem q147 : (Jvm.Cond.instanceMethod ({ cls := "SeanceStreet", name := "<init>", desc := "()V" } : Jvm.MethodName)) ∈ lw_all := lw_g (lw_at lw_m1 30 rfl) rfl
theorem q148 : (Jvm.Cond.code ({ cls := "SeanceStreet", name := "<init>", desc := "()V" } : Jvm.MethodName) prog_1_method_7_code (2 : Nat) (Option.none : Option Jvm.ClassFile.FieldType)) ∈ lw_all := lw_g (lw_at lw_m1 31 rfl) rfl
theorem q149 : (Jvm.Cond.methodLink "SeanceStreet" (7 : Nat) ({ cls := "java/lang/Object", name := "<init>", desc := "()V" } : Jvm.MethodName)) ∈ lw_all := lw_g (lw_at lw_m1 32 rfl) rfl
theorem q152 : (Jvm.Cond.classLink "SeanceStreet" (17 : Nat) "SeanceStreet$Scanner") ∈ lw_all := lw_g (lw_at lw_m1 35 rfl) rfl
theorem q154 : (Jvm.Cond.methodLink "SeanceStreet" (19 : Nat) ({ cls := "SeanceStreet$Scanner", name := "<init>", desc := "([B)V" } : Jvm.MethodName)) ∈ lw_all := lw_g (lw_at lw_m1 37 rfl) rfl
theorem q211 : (Jvm.Cond.fieldLink "SeanceStreet" (104 : Nat) "SeanceStreet$Refused" "fault" "I") ∈ lw_all := lw_g (lw_at lw_m1 94 rfl) rfl
theorem q213 : (Jvm.Cond.fieldLink "SeanceStreet" (105 : Nat) "SeanceStreet$Refused" "place" "I") ∈ lw_all := lw_g (lw_at lw_m1 96 rfl) rfl
theorem q264 : (Jvm.Cond.classLink "SeanceStreet" (30 : Nat) "SeanceStreet$Street") ∈ lw_all := lw_g (lw_at lw_m1 147 rfl) rfl
theorem q266 : (Jvm.Cond.methodLinkNest "SeanceStreet" (32 : Nat) ({ cls := "SeanceStreet$Street", name := "<init>", desc := "()V" } : Jvm.MethodName) "SeanceStreet") ∈ lw_tbl := lw_at lw_m1 149 rfl
theorem q272 : (Jvm.Cond.fieldLink "SeanceStreet" (137 : Nat) "SeanceStreet$Street" "homes" "[I") ∈ lw_all := lw_g (lw_at lw_m1 155 rfl) rfl
theorem q274 : (Jvm.Cond.fieldLink "SeanceStreet" (169 : Nat) "SeanceStreet$Street" "mirrors" "[I") ∈ lw_all := lw_g (lw_at lw_m1 157 rfl) rfl
theorem q276 : (Jvm.Cond.fieldLink "SeanceStreet" (163 : Nat) "SeanceStreet$Street" "slips" "[I") ∈ lw_all := lw_g (lw_at lw_m1 159 rfl) rfl
theorem q279 : (Jvm.Cond.fieldLink "SeanceStreet" (143 : Nat) "SeanceStreet$Street" "night" "I") ∈ lw_all := lw_g (lw_at lw_m1 162 rfl) rfl
theorem q292 : (Jvm.Cond.classLink "SeanceStreet" (43 : Nat) "SeanceStreet$Walk") ∈ lw_all := lw_g (lw_at lw_m1 175 rfl) rfl
theorem q294 : (Jvm.Cond.methodLinkNest "SeanceStreet" (45 : Nat) ({ cls := "SeanceStreet$Walk", name := "<init>", desc := "()V" } : Jvm.MethodName) "SeanceStreet") ∈ lw_tbl := lw_at lw_m1 177 rfl
theorem q324 : (Jvm.Cond.fieldLink "SeanceStreet" (13 : Nat) "SeanceStreet" "tape" "[B") ∈ lw_all := lw_g (lw_at lw_m1 207 rfl) rfl
theorem q325 : (Jvm.Cond.fieldLink "SeanceStreet" (76 : Nat) "SeanceStreet" "taped" "I") ∈ lw_all := lw_g (lw_at lw_m1 208 rfl) rfl
theorem q326 : (Jvm.Cond.fieldLink "SeanceStreet" (22 : Nat) "SeanceStreet" "scanner" "LSeanceStreet$Scanner;") ∈ lw_all := lw_g (lw_at lw_m1 209 rfl) rfl
theorem q327 : (Jvm.Cond.fieldLink "SeanceStreet" (98 : Nat) "SeanceStreet" "town" "LSeanceStreet$Town;") ∈ lw_all := lw_g (lw_at lw_m1 210 rfl) rfl
theorem q328 : (Jvm.Cond.fieldLink "SeanceStreet" (70 : Nat) "SeanceStreet" "trouble" "I") ∈ lw_all := lw_g (lw_at lw_m1 211 rfl) rfl
theorem q329 : (Jvm.Cond.fieldLink "SeanceStreet" (91 : Nat) "SeanceStreet" "fault" "I") ∈ lw_all := lw_g (lw_at lw_m1 212 rfl) rfl
theorem q330 : (Jvm.Cond.fieldLink "SeanceStreet" (26 : Nat) "SeanceStreet" "where" "I") ∈ lw_all := lw_g (lw_at lw_m1 213 rfl) rfl
theorem q331 : (Jvm.Cond.fieldLink "SeanceStreet" (115 : Nat) "SeanceStreet" "imageMany" "I") ∈ lw_all := lw_g (lw_at lw_m1 214 rfl) rfl
theorem q332 : (Jvm.Cond.fieldLink "SeanceStreet" (112 : Nat) "SeanceStreet" "undoMany" "I") ∈ lw_all := lw_g (lw_at lw_m1 215 rfl) rfl
theorem q333 : (Jvm.Cond.fieldLink "SeanceStreet" (33 : Nat) "SeanceStreet" "street" "LSeanceStreet$Street;") ∈ lw_all := lw_g (lw_at lw_m1 216 rfl) rfl
theorem q334 : (Jvm.Cond.fieldLink "SeanceStreet" (37 : Nat) "SeanceStreet" "was" "LSeanceStreet$Street;") ∈ lw_all := lw_g (lw_at lw_m1 217 rfl) rfl
theorem q335 : (Jvm.Cond.fieldLink "SeanceStreet" (40 : Nat) "SeanceStreet" "trial" "LSeanceStreet$Street;") ∈ lw_all := lw_g (lw_at lw_m1 218 rfl) rfl
theorem q336 : (Jvm.Cond.fieldLink "SeanceStreet" (46 : Nat) "SeanceStreet" "walk" "LSeanceStreet$Walk;") ∈ lw_all := lw_g (lw_at lw_m1 219 rfl) rfl
theorem q337 : (Jvm.Cond.fieldLink "SeanceStreet" (50 : Nat) "SeanceStreet" "undone" "[LSeanceStreet$Street;") ∈ lw_all := lw_g (lw_at lw_m1 220 rfl) rfl
theorem q338 : (Jvm.Cond.fieldLink "SeanceStreet" (54 : Nat) "SeanceStreet" "images" "[LSeanceStreet$Street;") ∈ lw_all := lw_g (lw_at lw_m1 221 rfl) rfl
theorem q339 : (Jvm.Cond.fieldLink "SeanceStreet" (57 : Nat) "SeanceStreet" "sorted" "[I") ∈ lw_all := lw_g (lw_at lw_m1 222 rfl) rfl
theorem q340 : (Jvm.Cond.fieldLink "SeanceStreet" (61 : Nat) "SeanceStreet" "seats" "[I") ∈ lw_all := lw_g (lw_at lw_m1 223 rfl) rfl
theorem q341 : (Jvm.Cond.fieldLink "SeanceStreet" (223 : Nat) "SeanceStreet" "seated" "I") ∈ lw_all := lw_g (lw_at lw_m1 224 rfl) rfl
theorem q342 : (Jvm.Cond.fieldLink "SeanceStreet" (64 : Nat) "SeanceStreet" "ringed" "[I") ∈ lw_all := lw_g (lw_at lw_m1 225 rfl) rfl
theorem q343 : (Jvm.Cond.fieldLink "SeanceStreet" (67 : Nat) "SeanceStreet" "often" "[I") ∈ lw_all := lw_g (lw_at lw_m1 226 rfl) rfl
theorem q344 : (Jvm.Cond.fieldLink "SeanceStreet" (285 : Nat) "SeanceStreet" "fitMany" "I") ∈ lw_all := lw_g (lw_at lw_m1 227 rfl) rfl
theorem q345 : (Jvm.Cond.fieldLink "SeanceStreet" (288 : Nat) "SeanceStreet" "found" "I") ∈ lw_all := lw_g (lw_at lw_m1 228 rfl) rfl
theorem q346 : (Jvm.Cond.fieldLink "SeanceStreet" (291 : Nat) "SeanceStreet" "some" "I") ∈ lw_all := lw_g (lw_at lw_m1 229 rfl) rfl
theorem q347 : (Jvm.Cond.fieldLink "SeanceStreet" (294 : Nat) "SeanceStreet" "every" "I") ∈ lw_all := lw_g (lw_at lw_m1 230 rfl) rfl
theorem q348 : (Jvm.Cond.fieldLink "SeanceStreet" (318 : Nat) "SeanceStreet" "firstRest" "I") ∈ lw_all := lw_g (lw_at lw_m1 231 rfl) rfl
theorem q349 : (Jvm.Cond.fieldLink "SeanceStreet" (337 : Nat) "SeanceStreet" "allWeight" "J") ∈ lw_all := lw_g (lw_at lw_m1 232 rfl) rfl
theorem q350 : (Jvm.Cond.fieldLink "SeanceStreet" (341 : Nat) "SeanceStreet" "mostWeight" "J") ∈ lw_all := lw_g (lw_at lw_m1 233 rfl) rfl
theorem q351 : (Jvm.Cond.fieldLink "SeanceStreet" (344 : Nat) "SeanceStreet" "heardSum" "J") ∈ lw_all := lw_g (lw_at lw_m1 234 rfl) rfl
theorem q352 : (Jvm.Cond.fieldLink "SeanceStreet" (354 : Nat) "SeanceStreet" "ears" "I") ∈ lw_all := lw_g (lw_at lw_m1 235 rfl) rfl
theorem q353 : (Jvm.Cond.fieldLink "SeanceStreet" (351 : Nat) "SeanceStreet" "rightMany" "I") ∈ lw_all := lw_g (lw_at lw_m1 236 rfl) rfl
theorem q354 : (Jvm.Cond.laysFinal "SeanceStreet" "SeanceStreet" "tape" "[B") ∈ lw_all := lw_g (lw_at lw_m1 237 rfl) rfl
theorem q355 : (Jvm.Cond.soleField "SeanceStreet" "tape") ∈ lw_all := lw_g (lw_at lw_m1 238 rfl) rfl
theorem q356 : (Jvm.Cond.lays "SeanceStreet" "SeanceStreet" "taped" "I") ∈ lw_all := lw_g (lw_at lw_m1 239 rfl) rfl
theorem q357 : (Jvm.Cond.soleField "SeanceStreet" "taped") ∈ lw_all := lw_g (lw_at lw_m2 0 rfl) rfl
theorem q358 : (Jvm.Cond.laysFinal "SeanceStreet" "SeanceStreet" "scanner" "LSeanceStreet$Scanner;") ∈ lw_all := lw_g (lw_at lw_m2 1 rfl) rfl
theorem q359 : (Jvm.Cond.soleField "SeanceStreet" "scanner") ∈ lw_all := lw_g (lw_at lw_m2 2 rfl) rfl
theorem q360 : (Jvm.Cond.lays "SeanceStreet" "SeanceStreet" "town" "LSeanceStreet$Town;") ∈ lw_all := lw_g (lw_at lw_m2 3 rfl) rfl
theorem q361 : (Jvm.Cond.soleField "SeanceStreet" "town") ∈ lw_all := lw_g (lw_at lw_m2 4 rfl) rfl
theorem q362 : (Jvm.Cond.lays "SeanceStreet" "SeanceStreet" "trouble" "I") ∈ lw_all := lw_g (lw_at lw_m2 5 rfl) rfl
theorem q363 : (Jvm.Cond.soleField "SeanceStreet" "trouble") ∈ lw_all := lw_g (lw_at lw_m2 6 rfl) rfl
theorem q364 : (Jvm.Cond.lays "SeanceStreet" "SeanceStreet" "fault" "I") ∈ lw_all := lw_g (lw_at lw_m2 7 rfl) rfl
theorem q365 : (Jvm.Cond.soleField "SeanceStreet" "fault") ∈ lw_all := lw_g (lw_at lw_m2 8 rfl) rfl
theorem q366 : (Jvm.Cond.lays "SeanceStreet" "SeanceStreet" "where" "I") ∈ lw_all := lw_g (lw_at lw_m2 9 rfl) rfl
theorem q367 : (Jvm.Cond.soleField "SeanceStreet" "where") ∈ lw_all := lw_g (lw_at lw_m2 10 rfl) rfl
theorem q368 : (Jvm.Cond.lays "SeanceStreet" "SeanceStreet" "imageMany" "I") ∈ lw_all := lw_g (lw_at lw_m2 11 rfl) rfl
theorem q369 : (Jvm.Cond.soleField "SeanceStreet" "imageMany") ∈ lw_all := lw_g (lw_at lw_m2 12 rfl) rfl
theorem q370 : (Jvm.Cond.lays "SeanceStreet" "SeanceStreet" "undoMany" "I") ∈ lw_all := lw_g (lw_at lw_m2 13 rfl) rfl
theorem q371 : (Jvm.Cond.soleField "SeanceStreet" "undoMany") ∈ lw_all := lw_g (lw_at lw_m2 14 rfl) rfl
theorem q372 : (Jvm.Cond.laysFinal "SeanceStreet" "SeanceStreet" "street" "LSeanceStreet$Street;") ∈ lw_all := lw_g (lw_at lw_m2 15 rfl) rfl
theorem q373 : (Jvm.Cond.soleField "SeanceStreet" "street") ∈ lw_all := lw_g (lw_at lw_m2 16 rfl) rfl
theorem q374 : (Jvm.Cond.laysFinal "SeanceStreet" "SeanceStreet" "was" "LSeanceStreet$Street;") ∈ lw_all := lw_g (lw_at lw_m2 17 rfl) rfl
theorem q375 : (Jvm.Cond.soleField "SeanceStreet" "was") ∈ lw_all := lw_g (lw_at lw_m2 18 rfl) rfl
theorem q376 : (Jvm.Cond.laysFinal "SeanceStreet" "SeanceStreet" "trial" "LSeanceStreet$Street;") ∈ lw_all := lw_g (lw_at lw_m2 19 rfl) rfl
theorem q377 : (Jvm.Cond.soleField "SeanceStreet" "trial") ∈ lw_all := lw_g (lw_at lw_m2 20 rfl) rfl
theorem q378 : (Jvm.Cond.laysFinal "SeanceStreet" "SeanceStreet" "walk" "LSeanceStreet$Walk;") ∈ lw_all := lw_g (lw_at lw_m2 21 rfl) rfl
theorem q379 : (Jvm.Cond.soleField "SeanceStreet" "walk") ∈ lw_all := lw_g (lw_at lw_m2 22 rfl) rfl
theorem q380 : (Jvm.Cond.laysFinal "SeanceStreet" "SeanceStreet" "undone" "[LSeanceStreet$Street;") ∈ lw_all := lw_g (lw_at lw_m2 23 rfl) rfl
theorem q381 : (Jvm.Cond.soleField "SeanceStreet" "undone") ∈ lw_all := lw_g (lw_at lw_m2 24 rfl) rfl
theorem q382 : (Jvm.Cond.laysFinal "SeanceStreet" "SeanceStreet" "images" "[LSeanceStreet$Street;") ∈ lw_all := lw_g (lw_at lw_m2 25 rfl) rfl
theorem q383 : (Jvm.Cond.soleField "SeanceStreet" "images") ∈ lw_all := lw_g (lw_at lw_m2 26 rfl) rfl
theorem q384 : (Jvm.Cond.laysFinal "SeanceStreet" "SeanceStreet" "sorted" "[I") ∈ lw_all := lw_g (lw_at lw_m2 27 rfl) rfl
theorem q385 : (Jvm.Cond.soleField "SeanceStreet" "sorted") ∈ lw_all := lw_g (lw_at lw_m2 28 rfl) rfl
theorem q386 : (Jvm.Cond.laysFinal "SeanceStreet" "SeanceStreet" "seats" "[I") ∈ lw_all := lw_g (lw_at lw_m2 29 rfl) rfl
theorem q387 : (Jvm.Cond.soleField "SeanceStreet" "seats") ∈ lw_all := lw_g (lw_at lw_m2 30 rfl) rfl
theorem q388 : (Jvm.Cond.lays "SeanceStreet" "SeanceStreet" "seated" "I") ∈ lw_all := lw_g (lw_at lw_m2 31 rfl) rfl
theorem q389 : (Jvm.Cond.soleField "SeanceStreet" "seated") ∈ lw_all := lw_g (lw_at lw_m2 32 rfl) rfl
theorem q390 : (Jvm.Cond.laysFinal "SeanceStreet" "SeanceStreet" "ringed" "[I") ∈ lw_all := lw_g (lw_at lw_m2 33 rfl) rfl
theorem q391 : (Jvm.Cond.soleField "SeanceStreet" "ringed") ∈ lw_all := lw_g (lw_at lw_m2 34 rfl) rfl
theorem q392 : (Jvm.Cond.laysFinal "SeanceStreet" "SeanceStreet" "often" "[I") ∈ lw_all := lw_g (lw_at lw_m2 35 rfl) rfl
theorem q393 : (Jvm.Cond.soleField "SeanceStreet" "often") ∈ lw_all := lw_g (lw_at lw_m2 36 rfl) rfl
theorem q394 : (Jvm.Cond.lays "SeanceStreet" "SeanceStreet" "fitMany" "I") ∈ lw_all := lw_g (lw_at lw_m2 37 rfl) rfl
theorem q395 : (Jvm.Cond.soleField "SeanceStreet" "fitMany") ∈ lw_all := lw_g (lw_at lw_m2 38 rfl) rfl
theorem q396 : (Jvm.Cond.lays "SeanceStreet" "SeanceStreet" "found" "I") ∈ lw_all := lw_g (lw_at lw_m2 39 rfl) rfl
theorem q397 : (Jvm.Cond.soleField "SeanceStreet" "found") ∈ lw_all := lw_g (lw_at lw_m2 40 rfl) rfl
theorem q398 : (Jvm.Cond.lays "SeanceStreet" "SeanceStreet" "some" "I") ∈ lw_all := lw_g (lw_at lw_m2 41 rfl) rfl
theorem q399 : (Jvm.Cond.soleField "SeanceStreet" "some") ∈ lw_all := lw_g (lw_at lw_m2 42 rfl) rfl
theorem q400 : (Jvm.Cond.lays "SeanceStreet" "SeanceStreet" "every" "I") ∈ lw_all := lw_g (lw_at lw_m2 43 rfl) rfl
theorem q401 : (Jvm.Cond.soleField "SeanceStreet" "every") ∈ lw_all := lw_g (lw_at lw_m2 44 rfl) rfl
theorem q402 : (Jvm.Cond.lays "SeanceStreet" "SeanceStreet" "firstRest" "I") ∈ lw_all := lw_g (lw_at lw_m2 45 rfl) rfl
theorem q403 : (Jvm.Cond.soleField "SeanceStreet" "firstRest") ∈ lw_all := lw_g (lw_at lw_m2 46 rfl) rfl
theorem q404 : (Jvm.Cond.lays "SeanceStreet" "SeanceStreet" "allWeight" "J") ∈ lw_all := lw_g (lw_at lw_m2 47 rfl) rfl
theorem q405 : (Jvm.Cond.soleField "SeanceStreet" "allWeight") ∈ lw_all := lw_g (lw_at lw_m2 48 rfl) rfl
theorem q406 : (Jvm.Cond.lays "SeanceStreet" "SeanceStreet" "mostWeight" "J") ∈ lw_all := lw_g (lw_at lw_m2 49 rfl) rfl
theorem q407 : (Jvm.Cond.soleField "SeanceStreet" "mostWeight") ∈ lw_all := lw_g (lw_at lw_m2 50 rfl) rfl
theorem q408 : (Jvm.Cond.lays "SeanceStreet" "SeanceStreet" "heardSum" "J") ∈ lw_all := lw_g (lw_at lw_m2 51 rfl) rfl
theorem q409 : (Jvm.Cond.soleField "SeanceStreet" "heardSum") ∈ lw_all := lw_g (lw_at lw_m2 52 rfl) rfl
theorem q410 : (Jvm.Cond.lays "SeanceStreet" "SeanceStreet" "ears" "I") ∈ lw_all := lw_g (lw_at lw_m2 53 rfl) rfl
theorem q411 : (Jvm.Cond.soleField "SeanceStreet" "ears") ∈ lw_all := lw_g (lw_at lw_m2 54 rfl) rfl
theorem q412 : (Jvm.Cond.lays "SeanceStreet" "SeanceStreet" "rightMany" "I") ∈ lw_all := lw_g (lw_at lw_m2 55 rfl) rfl
theorem q413 : (Jvm.Cond.soleField "SeanceStreet" "rightMany") ∈ lw_all := lw_g (lw_at lw_m2 56 rfl) rfl
theorem q414 : (Jvm.Cond.superclass "SeanceStreet" "java/lang/Object") ∈ lw_all := lw_g (lw_at lw_m2 57 rfl) rfl
theorem q416 : (Jvm.Cond.instanceMethod ({ cls := "SeanceStreet", name := "feed", desc := "(IIIII)I" } : Jvm.MethodName)) ∈ lw_all := lw_g (lw_at lw_m2 59 rfl) rfl
theorem q417 : (Jvm.Cond.selects "SeanceStreet" ({ cls := "SeanceStreet", name := "feed", desc := "(IIIII)I" } : Jvm.MethodName) ({ cls := "SeanceStreet", name := "feed", desc := "(IIIII)I" } : Jvm.MethodName)) ∈ lw_all := lw_g (lw_at lw_m2 60 rfl) rfl
theorem q418 : (Jvm.Cond.code ({ cls := "SeanceStreet", name := "feed", desc := "(IIIII)I" } : Jvm.MethodName) prog_1_method_11_code (6 : Nat) (Option.some Jvm.ClassFile.FieldType.int)) ∈ lw_all := lw_g (lw_at lw_m2 61 rfl) rfl
theorem q419 : (Jvm.Cond.methodLink "SeanceStreet" (79 : Nat) ({ cls := "SeanceStreet", name := "bytes", desc := "(I)V" } : Jvm.MethodName)) ∈ lw_all := lw_g (lw_at lw_m2 62 rfl) rfl
theorem q420 : (Jvm.Cond.privateMethod ({ cls := "SeanceStreet", name := "bytes", desc := "(I)V" } : Jvm.MethodName)) ∈ lw_tbl := lw_at lw_m2 63 rfl
theorem q421 : (Jvm.Cond.instanceMethod ({ cls := "SeanceStreet", name := "bytes", desc := "(I)V" } : Jvm.MethodName)) ∈ lw_all := lw_g (lw_at lw_m2 64 rfl) rfl
theorem q422 : (Jvm.Cond.code ({ cls := "SeanceStreet", name := "bytes", desc := "(I)V" } : Jvm.MethodName) prog_1_method_12_code (3 : Nat) (Option.none : Option Jvm.ClassFile.FieldType)) ∈ lw_all := lw_g (lw_at lw_m2 65 rfl) rfl
theorem q424 : (Jvm.Cond.instanceMethod ({ cls := "SeanceStreet", name := "town", desc := "(I)I" } : Jvm.MethodName)) ∈ lw_all := lw_g (lw_at lw_m2 67 rfl) rfl
theorem q425 : (Jvm.Cond.selects "SeanceStreet" ({ cls := "SeanceStreet", name := "town", desc := "(I)I" } : Jvm.MethodName) ({ cls := "SeanceStreet", name := "town", desc := "(I)I" } : Jvm.MethodName)) ∈ lw_all := lw_g (lw_at lw_m2 68 rfl) rfl
theorem q426 : (Jvm.Cond.codeWith ({ cls := "SeanceStreet", name := "town", desc := "(I)I" } : Jvm.MethodName) prog_1_method_13_code (3 : Nat) (Option.some Jvm.ClassFile.FieldType.int) [((32 : Nat), (44 : Nat), (47 : Nat), (102 : Nat))]) ∈ lw_all := lw_g (lw_at lw_m2 69 rfl) rfl
theorem q427 : (Jvm.Cond.classLink "SeanceStreet" (102 : Nat) "SeanceStreet$Refused") ∈ lw_all := lw_g (lw_at lw_m2 70 rfl) rfl
theorem q428 : (Jvm.Cond.methodLink "SeanceStreet" (73 : Nat) ({ cls := "SeanceStreet", name := "anew", desc := "()V" } : Jvm.MethodName)) ∈ lw_all := lw_g (lw_at lw_m2 71 rfl) rfl
theorem q429 : (Jvm.Cond.privateMethod ({ cls := "SeanceStreet", name := "anew", desc := "()V" } : Jvm.MethodName)) ∈ lw_tbl := lw_at lw_m2 72 rfl
theorem q430 : (Jvm.Cond.instanceMethod ({ cls := "SeanceStreet", name := "anew", desc := "()V" } : Jvm.MethodName)) ∈ lw_all := lw_g (lw_at lw_m2 73 rfl) rfl
theorem q431 : (Jvm.Cond.code ({ cls := "SeanceStreet", name := "anew", desc := "()V" } : Jvm.MethodName) prog_1_method_8_code (1 : Nat) (Option.none : Option Jvm.ClassFile.FieldType)) ∈ lw_all := lw_g (lw_at lw_m2 74 rfl) rfl
theorem q432 : (Jvm.Cond.methodLink "SeanceStreet" (83 : Nat) ({ cls := "SeanceStreet", name := "in", desc := "(III)Z" } : Jvm.MethodName)) ∈ lw_all := lw_g (lw_at lw_m2 75 rfl) rfl
theorem q433 : (Jvm.Cond.static ({ cls := "SeanceStreet", name := "in", desc := "(III)Z" } : Jvm.MethodName)) ∈ lw_all := lw_g (lw_at lw_m2 76 rfl) rfl
theorem q434 : (Jvm.Cond.code ({ cls := "SeanceStreet", name := "in", desc := "(III)Z" } : Jvm.MethodName) prog_1_method_1_code (3 : Nat) (Option.some Jvm.ClassFile.FieldType.boolean)) ∈ lw_all := lw_g (lw_at lw_m2 77 rfl) rfl
theorem q435 : (Jvm.Cond.methodLink "SeanceStreet" (87 : Nat) ({ cls := "SeanceStreet", name := "no", desc := "(I)I" } : Jvm.MethodName)) ∈ lw_all := lw_g (lw_at lw_m2 78 rfl) rfl
theorem q436 : (Jvm.Cond.privateMethod ({ cls := "SeanceStreet", name := "no", desc := "(I)I" } : Jvm.MethodName)) ∈ lw_tbl := lw_at lw_m2 79 rfl
theorem q437 : (Jvm.Cond.instanceMethod ({ cls := "SeanceStreet", name := "no", desc := "(I)I" } : Jvm.MethodName)) ∈ lw_all := lw_g (lw_at lw_m2 80 rfl) rfl
theorem q438 : (Jvm.Cond.code ({ cls := "SeanceStreet", name := "no", desc := "(I)I" } : Jvm.MethodName) prog_1_method_9_code (2 : Nat) (Option.some Jvm.ClassFile.FieldType.int)) ∈ lw_all := lw_g (lw_at lw_m2 81 rfl) rfl
theorem q439 : (Jvm.Cond.methodLink "SeanceStreet" (94 : Nat) ({ cls := "SeanceStreet$Scanner", name := "read", desc := "(I)LSeanceStreet$Town;" } : Jvm.MethodName)) ∈ lw_all := lw_g (lw_at lw_m2 82 rfl) rfl
theorem q459 : (Jvm.Cond.fieldLink "SeanceStreet" (153 : Nat) "SeanceStreet$Town" "ghosts" "[LSeanceStreet$Ghost;") ∈ lw_all := lw_g (lw_at lw_m2 102 rfl) rfl
theorem q463 : (Jvm.Cond.fieldLink "SeanceStreet" (267 : Nat) "SeanceStreet$Town" "unsure" "[I") ∈ lw_all := lw_g (lw_at lw_m2 106 rfl) rfl
theorem q466 : (Jvm.Cond.fieldLink "SeanceStreet" (282 : Nat) "SeanceStreet$Town" "heardBy" "[I") ∈ lw_all := lw_g (lw_at lw_m2 109 rfl) rfl
theorem q469 : (Jvm.Cond.fieldLink "SeanceStreet" (276 : Nat) "SeanceStreet$Town" "heardOf" "[I") ∈ lw_all := lw_g (lw_at lw_m2 112 rfl) rfl
theorem q472 : (Jvm.Cond.fieldLink "SeanceStreet" (279 : Nat) "SeanceStreet$Town" "heardIn" "[I") ∈ lw_all := lw_g (lw_at lw_m2 115 rfl) rfl
theorem q476 : (Jvm.Cond.fieldLink "SeanceStreet" (126 : Nat) "SeanceStreet$Town" "houses" "I") ∈ lw_all := lw_g (lw_at lw_m2 119 rfl) rfl
theorem q478 : (Jvm.Cond.fieldLink "SeanceStreet" (328 : Nat) "SeanceStreet$Town" "lips" "I") ∈ lw_all := lw_g (lw_at lw_m2 121 rfl) rfl
theorem q481 : (Jvm.Cond.fieldLink "SeanceStreet" (118 : Nat) "SeanceStreet$Town" "peopleMany" "I") ∈ lw_all := lw_g (lw_at lw_m2 124 rfl) rfl
theorem q486 : (Jvm.Cond.fieldLink "SeanceStreet" (123 : Nat) "SeanceStreet$Town" "ghostMany" "I") ∈ lw_all := lw_g (lw_at lw_m2 129 rfl) rfl
theorem q489 : (Jvm.Cond.fieldLink "SeanceStreet" (264 : Nat) "SeanceStreet$Town" "unsureMany" "I") ∈ lw_all := lw_g (lw_at lw_m2 132 rfl) rfl
theorem q491 : (Jvm.Cond.fieldLink "SeanceStreet" (273 : Nat) "SeanceStreet$Town" "heardMany" "I") ∈ lw_all := lw_g (lw_at lw_m2 134 rfl) rfl
theorem q789 : (Jvm.Cond.fieldLink "SeanceStreet" (166 : Nat) "SeanceStreet$Ghost" "whose" "I") ∈ lw_all := lw_g (lw_at lw_m3 192 rfl) rfl
theorem q795 : (Jvm.Cond.fieldLink "SeanceStreet" (270 : Nat) "SeanceStreet$Ghost" "other" "I") ∈ lw_all := lw_g (lw_at lw_m3 198 rfl) rfl
theorem q873 : (Jvm.Cond.methodLink "SeanceStreet" (108 : Nat) ({ cls := "SeanceStreet$Street", name := "begin", desc := "(LSeanceStreet$Town;)LSeanceStreet$Street;" } : Jvm.MethodName)) ∈ lw_all := lw_g (lw_at lw_m4 36 rfl) rfl
theorem q878 : (Jvm.Cond.instanceMethod ({ cls := "SeanceStreet", name := "fault", desc := "()I" } : Jvm.MethodName)) ∈ lw_all := lw_g (lw_at lw_m4 41 rfl) rfl
theorem q879 : (Jvm.Cond.selects "SeanceStreet" ({ cls := "SeanceStreet", name := "fault", desc := "()I" } : Jvm.MethodName) ({ cls := "SeanceStreet", name := "fault", desc := "()I" } : Jvm.MethodName)) ∈ lw_all := lw_g (lw_at lw_m4 42 rfl) rfl
theorem q880 : (Jvm.Cond.code ({ cls := "SeanceStreet", name := "fault", desc := "()I" } : Jvm.MethodName) prog_1_method_14_code (1 : Nat) (Option.some Jvm.ClassFile.FieldType.int)) ∈ lw_all := lw_g (lw_at lw_m4 43 rfl) rfl
theorem q882 : (Jvm.Cond.instanceMethod ({ cls := "SeanceStreet", name := "where", desc := "()I" } : Jvm.MethodName)) ∈ lw_all := lw_g (lw_at lw_m4 45 rfl) rfl
theorem q883 : (Jvm.Cond.selects "SeanceStreet" ({ cls := "SeanceStreet", name := "where", desc := "()I" } : Jvm.MethodName) ({ cls := "SeanceStreet", name := "where", desc := "()I" } : Jvm.MethodName)) ∈ lw_all := lw_g (lw_at lw_m4 46 rfl) rfl
theorem q884 : (Jvm.Cond.code ({ cls := "SeanceStreet", name := "where", desc := "()I" } : Jvm.MethodName) prog_1_method_15_code (1 : Nat) (Option.some Jvm.ClassFile.FieldType.int)) ∈ lw_all := lw_g (lw_at lw_m4 47 rfl) rfl
theorem q886 : (Jvm.Cond.instanceMethod ({ cls := "SeanceStreet", name := "person", desc := "(II)I" } : Jvm.MethodName)) ∈ lw_all := lw_g (lw_at lw_m4 49 rfl) rfl
theorem q887 : (Jvm.Cond.selects "SeanceStreet" ({ cls := "SeanceStreet", name := "person", desc := "(II)I" } : Jvm.MethodName) ({ cls := "SeanceStreet", name := "person", desc := "(II)I" } : Jvm.MethodName)) ∈ lw_all := lw_g (lw_at lw_m4 50 rfl) rfl
theorem q888 : (Jvm.Cond.code ({ cls := "SeanceStreet", name := "person", desc := "(II)I" } : Jvm.MethodName) prog_1_method_21_code (3 : Nat) (Option.some Jvm.ClassFile.FieldType.int)) ∈ lw_all := lw_g (lw_at lw_m4 51 rfl) rfl
theorem q889 : (Jvm.Cond.methodLink "SeanceStreet" (133 : Nat) ({ cls := "SeanceStreet", name := "isPerson", desc := "(I)Z" } : Jvm.MethodName)) ∈ lw_all := lw_g (lw_at lw_m4 52 rfl) rfl
theorem q890 : (Jvm.Cond.privateMethod ({ cls := "SeanceStreet", name := "isPerson", desc := "(I)Z" } : Jvm.MethodName)) ∈ lw_tbl := lw_at lw_m4 53 rfl
theorem q891 : (Jvm.Cond.instanceMethod ({ cls := "SeanceStreet", name := "isPerson", desc := "(I)Z" } : Jvm.MethodName)) ∈ lw_all := lw_g (lw_at lw_m4 54 rfl) rfl
theorem q892 : (Jvm.Cond.code ({ cls := "SeanceStreet", name := "isPerson", desc := "(I)Z" } : Jvm.MethodName) prog_1_method_16_code (2 : Nat) (Option.some Jvm.ClassFile.FieldType.boolean)) ∈ lw_all := lw_g (lw_at lw_m4 55 rfl) rfl
theorem q893 : (Jvm.Cond.methodLink "SeanceStreet" (140 : Nat) ({ cls := "SeanceStreet$Street", name := "forOne", desc := "(I)I" } : Jvm.MethodName)) ∈ lw_all := lw_g (lw_at lw_m4 56 rfl) rfl
theorem q897 : (Jvm.Cond.methodLink "SeanceStreet" (146 : Nat) ({ cls := "SeanceStreet$Street", name := "heard", desc := "(II)I" } : Jvm.MethodName)) ∈ lw_all := lw_g (lw_at lw_m4 60 rfl) rfl
theorem q930 : (Jvm.Cond.static ({ cls := "SeanceStreet", name := "wrap", desc := "(JI)I" } : Jvm.MethodName)) ∈ lw_all := lw_g (lw_at lw_m4 93 rfl) rfl
theorem q931 : (Jvm.Cond.code ({ cls := "SeanceStreet", name := "wrap", desc := "(JI)I" } : Jvm.MethodName) prog_1_method_6_code (3 : Nat) (Option.some Jvm.ClassFile.FieldType.int)) ∈ lw_all := lw_g (lw_at lw_m4 94 rfl) rfl
theorem q942 : (Jvm.Cond.instanceMethod ({ cls := "SeanceStreet", name := "dead", desc := "(II)I" } : Jvm.MethodName)) ∈ lw_all := lw_g (lw_at lw_m4 105 rfl) rfl
theorem q943 : (Jvm.Cond.selects "SeanceStreet" ({ cls := "SeanceStreet", name := "dead", desc := "(II)I" } : Jvm.MethodName) ({ cls := "SeanceStreet", name := "dead", desc := "(II)I" } : Jvm.MethodName)) ∈ lw_all := lw_g (lw_at lw_m4 106 rfl) rfl
theorem q944 : (Jvm.Cond.code ({ cls := "SeanceStreet", name := "dead", desc := "(II)I" } : Jvm.MethodName) prog_1_method_22_code (3 : Nat) (Option.some Jvm.ClassFile.FieldType.int)) ∈ lw_all := lw_g (lw_at lw_m4 107 rfl) rfl
theorem q945 : (Jvm.Cond.methodLink "SeanceStreet" (150 : Nat) ({ cls := "SeanceStreet", name := "isDead", desc := "(I)Z" } : Jvm.MethodName)) ∈ lw_all := lw_g (lw_at lw_m4 108 rfl) rfl
theorem q946 : (Jvm.Cond.privateMethod ({ cls := "SeanceStreet", name := "isDead", desc := "(I)Z" } : Jvm.MethodName)) ∈ lw_tbl := lw_at lw_m4 109 rfl
theorem q947 : (Jvm.Cond.instanceMethod ({ cls := "SeanceStreet", name := "isDead", desc := "(I)Z" } : Jvm.MethodName)) ∈ lw_all := lw_g (lw_at lw_m4 110 rfl) rfl
theorem q948 : (Jvm.Cond.code ({ cls := "SeanceStreet", name := "isDead", desc := "(I)Z" } : Jvm.MethodName) prog_1_method_17_code (2 : Nat) (Option.some Jvm.ClassFile.FieldType.boolean)) ∈ lw_all := lw_g (lw_at lw_m4 111 rfl) rfl
theorem q949 : (Jvm.Cond.methodLink "SeanceStreet" (157 : Nat) ({ cls := "SeanceStreet$Ghost", name := "law", desc := "()I" } : Jvm.MethodName)) ∈ lw_all := lw_g (lw_at lw_m4 112 rfl) rfl
theorem q967 : (Jvm.Cond.instanceMethod ({ cls := "SeanceStreet", name := "house", desc := "(I)I" } : Jvm.MethodName)) ∈ lw_all := lw_g (lw_at lw_m4 130 rfl) rfl
theorem q968 : (Jvm.Cond.selects "SeanceStreet" ({ cls := "SeanceStreet", name := "house", desc := "(I)I" } : Jvm.MethodName) ({ cls := "SeanceStreet", name := "house", desc := "(I)I" } : Jvm.MethodName)) ∈ lw_all := lw_g (lw_at lw_m4 131 rfl) rfl
theorem q969 : (Jvm.Cond.code ({ cls := "SeanceStreet", name := "house", desc := "(I)I" } : Jvm.MethodName) prog_1_method_23_code (2 : Nat) (Option.some Jvm.ClassFile.FieldType.int)) ∈ lw_all := lw_g (lw_at lw_m4 132 rfl) rfl
theorem q970 : (Jvm.Cond.methodLink "SeanceStreet" (172 : Nat) ({ cls := "SeanceStreet", name := "isHouse", desc := "(I)Z" } : Jvm.MethodName)) ∈ lw_all := lw_g (lw_at lw_m4 133 rfl) rfl
theorem q971 : (Jvm.Cond.privateMethod ({ cls := "SeanceStreet", name := "isHouse", desc := "(I)Z" } : Jvm.MethodName)) ∈ lw_tbl := lw_at lw_m4 134 rfl
theorem q972 : (Jvm.Cond.instanceMethod ({ cls := "SeanceStreet", name := "isHouse", desc := "(I)Z" } : Jvm.MethodName)) ∈ lw_all := lw_g (lw_at lw_m4 135 rfl) rfl
theorem q973 : (Jvm.Cond.code ({ cls := "SeanceStreet", name := "isHouse", desc := "(I)Z" } : Jvm.MethodName) prog_1_method_18_code (2 : Nat) (Option.some Jvm.ClassFile.FieldType.boolean)) ∈ lw_all := lw_g (lw_at lw_m4 136 rfl) rfl
theorem q974 : (Jvm.Cond.methodLink "SeanceStreet" (175 : Nat) ({ cls := "SeanceStreet$Street", name := "who", desc := "(I)I" } : Jvm.MethodName)) ∈ lw_all := lw_g (lw_at lw_m4 137 rfl) rfl
theorem q976 : (Jvm.Cond.instanceMethod ({ cls := "SeanceStreet", name := "comesOut", desc := "(II)I" } : Jvm.MethodName)) ∈ lw_all := lw_g (lw_at lw_m4 139 rfl) rfl
theorem q977 : (Jvm.Cond.selects "SeanceStreet" ({ cls := "SeanceStreet", name := "comesOut", desc := "(II)I" } : Jvm.MethodName) ({ cls := "SeanceStreet", name := "comesOut", desc := "(II)I" } : Jvm.MethodName)) ∈ lw_all := lw_g (lw_at lw_m4 140 rfl) rfl
theorem q978 : (Jvm.Cond.code ({ cls := "SeanceStreet", name := "comesOut", desc := "(II)I" } : Jvm.MethodName) prog_1_method_24_code (4 : Nat) (Option.some Jvm.ClassFile.FieldType.int)) ∈ lw_all := lw_g (lw_at lw_m4 141 rfl) rfl
theorem q979 : (Jvm.Cond.methodLink "SeanceStreet" (178 : Nat) ({ cls := "SeanceStreet", name := "nightWhy", desc := "(ZI)I" } : Jvm.MethodName)) ∈ lw_all := lw_g (lw_at lw_m4 142 rfl) rfl
theorem q980 : (Jvm.Cond.privateMethod ({ cls := "SeanceStreet", name := "nightWhy", desc := "(ZI)I" } : Jvm.MethodName)) ∈ lw_tbl := lw_at lw_m4 143 rfl
theorem q981 : (Jvm.Cond.instanceMethod ({ cls := "SeanceStreet", name := "nightWhy", desc := "(ZI)I" } : Jvm.MethodName)) ∈ lw_all := lw_g (lw_at lw_m4 144 rfl) rfl
theorem q982 : (Jvm.Cond.code ({ cls := "SeanceStreet", name := "nightWhy", desc := "(ZI)I" } : Jvm.MethodName) prog_1_method_20_code (3 : Nat) (Option.some Jvm.ClassFile.FieldType.int)) ∈ lw_all := lw_g (lw_at lw_m4 145 rfl) rfl
theorem q983 : (Jvm.Cond.methodLink "SeanceStreet" (129 : Nat) ({ cls := "SeanceStreet", name := "numberWhy", desc := "(ZZ)I" } : Jvm.MethodName)) ∈ lw_all := lw_g (lw_at lw_m4 146 rfl) rfl
theorem q984 : (Jvm.Cond.privateMethod ({ cls := "SeanceStreet", name := "numberWhy", desc := "(ZZ)I" } : Jvm.MethodName)) ∈ lw_tbl := lw_at lw_m4 147 rfl
theorem q985 : (Jvm.Cond.instanceMethod ({ cls := "SeanceStreet", name := "numberWhy", desc := "(ZZ)I" } : Jvm.MethodName)) ∈ lw_all := lw_g (lw_at lw_m4 148 rfl) rfl
theorem q986 : (Jvm.Cond.code ({ cls := "SeanceStreet", name := "numberWhy", desc := "(ZZ)I" } : Jvm.MethodName) prog_1_method_19_code (3 : Nat) (Option.some Jvm.ClassFile.FieldType.int)) ∈ lw_all := lw_g (lw_at lw_m4 149 rfl) rfl
theorem q987 : (Jvm.Cond.methodLink "SeanceStreet" (182 : Nat) ({ cls := "SeanceStreet$Street", name := "aimed", desc := "(I)I" } : Jvm.MethodName)) ∈ lw_all := lw_g (lw_at lw_m4 150 rfl) rfl
theorem q988 : (Jvm.Cond.methodLink "SeanceStreet" (185 : Nat) ({ cls := "SeanceStreet$Street", name := "out", desc := "(III)I" } : Jvm.MethodName)) ∈ lw_all := lw_g (lw_at lw_m4 151 rfl) rfl
theorem q990 : (Jvm.Cond.instanceMethod ({ cls := "SeanceStreet", name := "outIf", desc := "(III)I" } : Jvm.MethodName)) ∈ lw_all := lw_g (lw_at lw_m4 153 rfl) rfl
theorem q991 : (Jvm.Cond.selects "SeanceStreet" ({ cls := "SeanceStreet", name := "outIf", desc := "(III)I" } : Jvm.MethodName) ({ cls := "SeanceStreet", name := "outIf", desc := "(III)I" } : Jvm.MethodName)) ∈ lw_all := lw_g (lw_at lw_m4 154 rfl) rfl
theorem q992 : (Jvm.Cond.code ({ cls := "SeanceStreet", name := "outIf", desc := "(III)I" } : Jvm.MethodName) prog_1_method_25_code (5 : Nat) (Option.some Jvm.ClassFile.FieldType.int)) ∈ lw_all := lw_g (lw_at lw_m4 155 rfl) rfl
theorem q994 : (Jvm.Cond.instanceMethod ({ cls := "SeanceStreet", name := "hears", desc := "(II)I" } : Jvm.MethodName)) ∈ lw_all := lw_g (lw_at lw_m4 157 rfl) rfl
theorem q995 : (Jvm.Cond.selects "SeanceStreet" ({ cls := "SeanceStreet", name := "hears", desc := "(II)I" } : Jvm.MethodName) ({ cls := "SeanceStreet", name := "hears", desc := "(II)I" } : Jvm.MethodName)) ∈ lw_all := lw_g (lw_at lw_m4 158 rfl) rfl
theorem q996 : (Jvm.Cond.code ({ cls := "SeanceStreet", name := "hears", desc := "(II)I" } : Jvm.MethodName) prog_1_method_26_code (4 : Nat) (Option.some Jvm.ClassFile.FieldType.int)) ∈ lw_all := lw_g (lw_at lw_m4 159 rfl) rfl
theorem q997 : (Jvm.Cond.methodLink "SeanceStreet" (189 : Nat) ({ cls := "SeanceStreet$Street", name := "ear", desc := "(III)I" } : Jvm.MethodName)) ∈ lw_all := lw_g (lw_at lw_m4 160 rfl) rfl
theorem q999 : (Jvm.Cond.instanceMethod ({ cls := "SeanceStreet", name := "off", desc := "(II)I" } : Jvm.MethodName)) ∈ lw_all := lw_g (lw_at lw_m4 162 rfl) rfl
theorem q1000 : (Jvm.Cond.selects "SeanceStreet" ({ cls := "SeanceStreet", name := "off", desc := "(II)I" } : Jvm.MethodName) ({ cls := "SeanceStreet", name := "off", desc := "(II)I" } : Jvm.MethodName)) ∈ lw_all := lw_g (lw_at lw_m4 163 rfl) rfl
theorem q1001 : (Jvm.Cond.code ({ cls := "SeanceStreet", name := "off", desc := "(II)I" } : Jvm.MethodName) prog_1_method_27_code (4 : Nat) (Option.some Jvm.ClassFile.FieldType.int)) ∈ lw_all := lw_g (lw_at lw_m4 164 rfl) rfl
theorem q1002 : (Jvm.Cond.methodLink "SeanceStreet" (192 : Nat) ({ cls := "SeanceStreet", name := "wrap", desc := "(JI)I" } : Jvm.MethodName)) ∈ lw_all := lw_g (lw_at lw_m4 165 rfl) rfl
theorem q1004 : (Jvm.Cond.instanceMethod ({ cls := "SeanceStreet", name := "right", desc := "(I)I" } : Jvm.MethodName)) ∈ lw_all := lw_g (lw_at lw_m4 167 rfl) rfl
theorem q1005 : (Jvm.Cond.selects "SeanceStreet" ({ cls := "SeanceStreet", name := "right", desc := "(I)I" } : Jvm.MethodName) ({ cls := "SeanceStreet", name := "right", desc := "(I)I" } : Jvm.MethodName)) ∈ lw_all := lw_g (lw_at lw_m4 168 rfl) rfl
theorem q1006 : (Jvm.Cond.code ({ cls := "SeanceStreet", name := "right", desc := "(I)I" } : Jvm.MethodName) prog_1_method_28_code (3 : Nat) (Option.some Jvm.ClassFile.FieldType.int)) ∈ lw_all := lw_g (lw_at lw_m4 169 rfl) rfl
theorem q1007 : (Jvm.Cond.methodLink "SeanceStreet" (196 : Nat) ({ cls := "SeanceStreet$Street", name := "rightOnes", desc := "(I)I" } : Jvm.MethodName)) ∈ lw_all := lw_g (lw_at lw_m4 170 rfl) rfl
theorem q1016 : (Jvm.Cond.instanceMethod ({ cls := "SeanceStreet", name := "medium", desc := "(I)I" } : Jvm.MethodName)) ∈ lw_all := lw_g (lw_at lw_m4 179 rfl) rfl
theorem q1017 : (Jvm.Cond.selects "SeanceStreet" ({ cls := "SeanceStreet", name := "medium", desc := "(I)I" } : Jvm.MethodName) ({ cls := "SeanceStreet", name := "medium", desc := "(I)I" } : Jvm.MethodName)) ∈ lw_all := lw_g (lw_at lw_m4 180 rfl) rfl
theorem q1018 : (Jvm.Cond.code ({ cls := "SeanceStreet", name := "medium", desc := "(I)I" } : Jvm.MethodName) prog_1_method_29_code (5 : Nat) (Option.some Jvm.ClassFile.FieldType.int)) ∈ lw_all := lw_g (lw_at lw_m4 181 rfl) rfl
theorem q1019 : (Jvm.Cond.methodLink "SeanceStreet" (199 : Nat) ({ cls := "SeanceStreet", name := "ones", desc := "(I)I" } : Jvm.MethodName)) ∈ lw_all := lw_g (lw_at lw_m4 182 rfl) rfl
theorem q1020 : (Jvm.Cond.static ({ cls := "SeanceStreet", name := "ones", desc := "(I)I" } : Jvm.MethodName)) ∈ lw_all := lw_g (lw_at lw_m4 183 rfl) rfl
theorem q1021 : (Jvm.Cond.code ({ cls := "SeanceStreet", name := "ones", desc := "(I)I" } : Jvm.MethodName) prog_1_method_3_code (3 : Nat) (Option.some Jvm.ClassFile.FieldType.int)) ∈ lw_all := lw_g (lw_at lw_m4 184 rfl) rfl
theorem q1023 : (Jvm.Cond.instanceMethod ({ cls := "SeanceStreet", name := "silent", desc := "(I)I" } : Jvm.MethodName)) ∈ lw_all := lw_g (lw_at lw_m4 186 rfl) rfl
theorem q1024 : (Jvm.Cond.selects "SeanceStreet" ({ cls := "SeanceStreet", name := "silent", desc := "(I)I" } : Jvm.MethodName) ({ cls := "SeanceStreet", name := "silent", desc := "(I)I" } : Jvm.MethodName)) ∈ lw_all := lw_g (lw_at lw_m4 187 rfl) rfl
theorem q1025 : (Jvm.Cond.code ({ cls := "SeanceStreet", name := "silent", desc := "(I)I" } : Jvm.MethodName) prog_1_method_30_code (5 : Nat) (Option.some Jvm.ClassFile.FieldType.int)) ∈ lw_all := lw_g (lw_at lw_m4 188 rfl) rfl
theorem q1027 : (Jvm.Cond.instanceMethod ({ cls := "SeanceStreet", name := "rightFrom", desc := "(II)I" } : Jvm.MethodName)) ∈ lw_all := lw_g (lw_at lw_m4 190 rfl) rfl
theorem q1028 : (Jvm.Cond.selects "SeanceStreet" ({ cls := "SeanceStreet", name := "rightFrom", desc := "(II)I" } : Jvm.MethodName) ({ cls := "SeanceStreet", name := "rightFrom", desc := "(II)I" } : Jvm.MethodName)) ∈ lw_all := lw_g (lw_at lw_m4 191 rfl) rfl
theorem q1029 : (Jvm.Cond.code ({ cls := "SeanceStreet", name := "rightFrom", desc := "(II)I" } : Jvm.MethodName) prog_1_method_31_code (5 : Nat) (Option.some Jvm.ClassFile.FieldType.int)) ∈ lw_all := lw_g (lw_at lw_m4 192 rfl) rfl
theorem q1030 : (Jvm.Cond.methodLink "SeanceStreet" (202 : Nat) ({ cls := "SeanceStreet$Street", name := "isRight", desc := "(III)Z" } : Jvm.MethodName)) ∈ lw_all := lw_g (lw_at lw_m4 193 rfl) rfl
theorem q1032 : (Jvm.Cond.instanceMethod ({ cls := "SeanceStreet", name := "nightsOf", desc := "(II)I" } : Jvm.MethodName)) ∈ lw_all := lw_g (lw_at lw_m4 195 rfl) rfl
theorem q1033 : (Jvm.Cond.selects "SeanceStreet" ({ cls := "SeanceStreet", name := "nightsOf", desc := "(II)I" } : Jvm.MethodName) ({ cls := "SeanceStreet", name := "nightsOf", desc := "(II)I" } : Jvm.MethodName)) ∈ lw_all := lw_g (lw_at lw_m4 196 rfl) rfl
theorem q1034 : (Jvm.Cond.code ({ cls := "SeanceStreet", name := "nightsOf", desc := "(II)I" } : Jvm.MethodName) prog_1_method_32_code (5 : Nat) (Option.some Jvm.ClassFile.FieldType.int)) ∈ lw_all := lw_g (lw_at lw_m4 197 rfl) rfl
theorem q1036 : (Jvm.Cond.instanceMethod ({ cls := "SeanceStreet", name := "round", desc := "(I)I" } : Jvm.MethodName)) ∈ lw_all := lw_g (lw_at lw_m4 199 rfl) rfl
theorem q1037 : (Jvm.Cond.selects "SeanceStreet" ({ cls := "SeanceStreet", name := "round", desc := "(I)I" } : Jvm.MethodName) ({ cls := "SeanceStreet", name := "round", desc := "(I)I" } : Jvm.MethodName)) ∈ lw_all := lw_g (lw_at lw_m4 200 rfl) rfl
theorem q1038 : (Jvm.Cond.code ({ cls := "SeanceStreet", name := "round", desc := "(I)I" } : Jvm.MethodName) prog_1_method_33_code (2 : Nat) (Option.some Jvm.ClassFile.FieldType.int)) ∈ lw_all := lw_g (lw_at lw_m4 201 rfl) rfl
theorem q1039 : (Jvm.Cond.methodLink "SeanceStreet" (205 : Nat) ({ cls := "SeanceStreet$Ghost", name := "rounds", desc := "(II)I" } : Jvm.MethodName)) ∈ lw_all := lw_g (lw_at lw_m4 202 rfl) rfl
theorem q1046 : (Jvm.Cond.static ({ cls := "SeanceStreet", name := "dividing", desc := "(JJ)J" } : Jvm.MethodName)) ∈ lw_all := lw_g (lw_at lw_m4 209 rfl) rfl
theorem q1047 : (Jvm.Cond.code ({ cls := "SeanceStreet", name := "dividing", desc := "(JJ)J" } : Jvm.MethodName) prog_1_method_4_code (4 : Nat) (Option.some Jvm.ClassFile.FieldType.long)) ∈ lw_all := lw_g (lw_at lw_m4 210 rfl) rfl
theorem q1048 : (Jvm.Cond.methodLink "SeanceStreet" (1 : Nat) ({ cls := "SeanceStreet", name := "dividing", desc := "(JJ)J" } : Jvm.MethodName)) ∈ lw_all := lw_g (lw_at lw_m4 211 rfl) rfl
theorem q1056 : (Jvm.Cond.instanceMethod ({ cls := "SeanceStreet", name := "bestNight", desc := "()I" } : Jvm.MethodName)) ∈ lw_all := lw_g (lw_at lw_m4 219 rfl) rfl
theorem q1057 : (Jvm.Cond.selects "SeanceStreet" ({ cls := "SeanceStreet", name := "bestNight", desc := "()I" } : Jvm.MethodName) ({ cls := "SeanceStreet", name := "bestNight", desc := "()I" } : Jvm.MethodName)) ∈ lw_all := lw_g (lw_at lw_m4 220 rfl) rfl
theorem q1058 : (Jvm.Cond.code ({ cls := "SeanceStreet", name := "bestNight", desc := "()I" } : Jvm.MethodName) prog_1_method_34_code (3 : Nat) (Option.some Jvm.ClassFile.FieldType.int)) ∈ lw_all := lw_g (lw_at lw_m4 221 rfl) rfl
theorem q1060 : (Jvm.Cond.instanceMethod ({ cls := "SeanceStreet", name := "perfect", desc := "()I" } : Jvm.MethodName)) ∈ lw_all := lw_g (lw_at lw_m4 223 rfl) rfl
theorem q1061 : (Jvm.Cond.selects "SeanceStreet" ({ cls := "SeanceStreet", name := "perfect", desc := "()I" } : Jvm.MethodName) ({ cls := "SeanceStreet", name := "perfect", desc := "()I" } : Jvm.MethodName)) ∈ lw_all := lw_g (lw_at lw_m4 224 rfl) rfl
theorem q1062 : (Jvm.Cond.code ({ cls := "SeanceStreet", name := "perfect", desc := "()I" } : Jvm.MethodName) prog_1_method_35_code (3 : Nat) (Option.some Jvm.ClassFile.FieldType.int)) ∈ lw_all := lw_g (lw_at lw_m4 225 rfl) rfl
theorem q1064 : (Jvm.Cond.instanceMethod ({ cls := "SeanceStreet", name := "together", desc := "(II)I" } : Jvm.MethodName)) ∈ lw_all := lw_g (lw_at lw_m4 227 rfl) rfl
theorem q1065 : (Jvm.Cond.selects "SeanceStreet" ({ cls := "SeanceStreet", name := "together", desc := "(II)I" } : Jvm.MethodName) ({ cls := "SeanceStreet", name := "together", desc := "(II)I" } : Jvm.MethodName)) ∈ lw_all := lw_g (lw_at lw_m4 228 rfl) rfl
theorem q1066 : (Jvm.Cond.code ({ cls := "SeanceStreet", name := "together", desc := "(II)I" } : Jvm.MethodName) prog_1_method_36_code (4 : Nat) (Option.some Jvm.ClassFile.FieldType.int)) ∈ lw_all := lw_g (lw_at lw_m4 229 rfl) rfl
theorem q1068 : (Jvm.Cond.instanceMethod ({ cls := "SeanceStreet", name := "aimFor", desc := "(III)I" } : Jvm.MethodName)) ∈ lw_all := lw_g (lw_at lw_m4 231 rfl) rfl
theorem q1069 : (Jvm.Cond.selects "SeanceStreet" ({ cls := "SeanceStreet", name := "aimFor", desc := "(III)I" } : Jvm.MethodName) ({ cls := "SeanceStreet", name := "aimFor", desc := "(III)I" } : Jvm.MethodName)) ∈ lw_all := lw_g (lw_at lw_m4 232 rfl) rfl
theorem q1070 : (Jvm.Cond.code ({ cls := "SeanceStreet", name := "aimFor", desc := "(III)I" } : Jvm.MethodName) prog_1_method_38_code (6 : Nat) (Option.some Jvm.ClassFile.FieldType.int)) ∈ lw_all := lw_g (lw_at lw_m4 233 rfl) rfl
theorem q1071 : (Jvm.Cond.methodLink "SeanceStreet" (211 : Nat) ({ cls := "SeanceStreet", name := "isAim", desc := "(IIII)Z" } : Jvm.MethodName)) ∈ lw_all := lw_g (lw_at lw_m4 234 rfl) rfl
theorem q1072 : (Jvm.Cond.privateMethod ({ cls := "SeanceStreet", name := "isAim", desc := "(IIII)Z" } : Jvm.MethodName)) ∈ lw_tbl := lw_at lw_m4 235 rfl
theorem q1073 : (Jvm.Cond.instanceMethod ({ cls := "SeanceStreet", name := "isAim", desc := "(IIII)Z" } : Jvm.MethodName)) ∈ lw_all := lw_g (lw_at lw_m4 236 rfl) rfl
theorem q1074 : (Jvm.Cond.code ({ cls := "SeanceStreet", name := "isAim", desc := "(IIII)Z" } : Jvm.MethodName) prog_1_method_37_code (5 : Nat) (Option.some Jvm.ClassFile.FieldType.boolean)) ∈ lw_all := lw_g (lw_at lw_m4 237 rfl) rfl
theorem q1075 : (Jvm.Cond.methodLink "SeanceStreet" (208 : Nat) ({ cls := "SeanceStreet$Street", name := "from", desc := "(I)I" } : Jvm.MethodName)) ∈ lw_all := lw_g (lw_at lw_m4 238 rfl) rfl
theorem q1077 : (Jvm.Cond.instanceMethod ({ cls := "SeanceStreet", name := "aims", desc := "(III)I" } : Jvm.MethodName)) ∈ lw_all := lw_g (lw_at lw_m5 0 rfl) rfl
theorem q1078 : (Jvm.Cond.selects "SeanceStreet" ({ cls := "SeanceStreet", name := "aims", desc := "(III)I" } : Jvm.MethodName) ({ cls := "SeanceStreet", name := "aims", desc := "(III)I" } : Jvm.MethodName)) ∈ lw_all := lw_g (lw_at lw_m5 1 rfl) rfl
theorem q1079 : (Jvm.Cond.code ({ cls := "SeanceStreet", name := "aims", desc := "(III)I" } : Jvm.MethodName) prog_1_method_39_code (7 : Nat) (Option.some Jvm.ClassFile.FieldType.int)) ∈ lw_all := lw_g (lw_at lw_m5 2 rfl) rfl
theorem q1081 : (Jvm.Cond.instanceMethod ({ cls := "SeanceStreet", name := "mirrorFor", desc := "(II)I" } : Jvm.MethodName)) ∈ lw_all := lw_g (lw_at lw_m5 4 rfl) rfl
theorem q1082 : (Jvm.Cond.selects "SeanceStreet" ({ cls := "SeanceStreet", name := "mirrorFor", desc := "(II)I" } : Jvm.MethodName) ({ cls := "SeanceStreet", name := "mirrorFor", desc := "(II)I" } : Jvm.MethodName)) ∈ lw_all := lw_g (lw_at lw_m5 5 rfl) rfl
theorem q1083 : (Jvm.Cond.code ({ cls := "SeanceStreet", name := "mirrorFor", desc := "(II)I" } : Jvm.MethodName) prog_1_method_41_code (5 : Nat) (Option.some Jvm.ClassFile.FieldType.int)) ∈ lw_all := lw_g (lw_at lw_m5 6 rfl) rfl
theorem q1084 : (Jvm.Cond.methodLink "SeanceStreet" (219 : Nat) ({ cls := "SeanceStreet", name := "mirrored", desc := "(IIII)I" } : Jvm.MethodName)) ∈ lw_all := lw_g (lw_at lw_m5 7 rfl) rfl
theorem q1085 : (Jvm.Cond.privateMethod ({ cls := "SeanceStreet", name := "mirrored", desc := "(IIII)I" } : Jvm.MethodName)) ∈ lw_tbl := lw_at lw_m5 8 rfl
theorem q1086 : (Jvm.Cond.instanceMethod ({ cls := "SeanceStreet", name := "mirrored", desc := "(IIII)I" } : Jvm.MethodName)) ∈ lw_all := lw_g (lw_at lw_m5 9 rfl) rfl
theorem q1087 : (Jvm.Cond.code ({ cls := "SeanceStreet", name := "mirrored", desc := "(IIII)I" } : Jvm.MethodName) prog_1_method_40_code (7 : Nat) (Option.some Jvm.ClassFile.FieldType.int)) ∈ lw_all := lw_g (lw_at lw_m5 10 rfl) rfl
theorem q1088 : (Jvm.Cond.methodLink "SeanceStreet" (215 : Nat) ({ cls := "SeanceStreet$Street", name := "become", desc := "(LSeanceStreet$Street;)LSeanceStreet$Street;" } : Jvm.MethodName)) ∈ lw_all := lw_g (lw_at lw_m5 11 rfl) rfl
theorem q1096 : (Jvm.Cond.instanceMethod ({ cls := "SeanceStreet", name := "mirrorBest", desc := "(I)I" } : Jvm.MethodName)) ∈ lw_all := lw_g (lw_at lw_m5 19 rfl) rfl
theorem q1097 : (Jvm.Cond.selects "SeanceStreet" ({ cls := "SeanceStreet", name := "mirrorBest", desc := "(I)I" } : Jvm.MethodName) ({ cls := "SeanceStreet", name := "mirrorBest", desc := "(I)I" } : Jvm.MethodName)) ∈ lw_all := lw_g (lw_at lw_m5 20 rfl) rfl
theorem q1098 : (Jvm.Cond.code ({ cls := "SeanceStreet", name := "mirrorBest", desc := "(I)I" } : Jvm.MethodName) prog_1_method_42_code (4 : Nat) (Option.some Jvm.ClassFile.FieldType.int)) ∈ lw_all := lw_g (lw_at lw_m5 21 rfl) rfl
theorem q1100 : (Jvm.Cond.instanceMethod ({ cls := "SeanceStreet", name := "slipFor", desc := "(II)I" } : Jvm.MethodName)) ∈ lw_all := lw_g (lw_at lw_m5 23 rfl) rfl
theorem q1101 : (Jvm.Cond.selects "SeanceStreet" ({ cls := "SeanceStreet", name := "slipFor", desc := "(II)I" } : Jvm.MethodName) ({ cls := "SeanceStreet", name := "slipFor", desc := "(II)I" } : Jvm.MethodName)) ∈ lw_all := lw_g (lw_at lw_m5 24 rfl) rfl
theorem q1102 : (Jvm.Cond.code ({ cls := "SeanceStreet", name := "slipFor", desc := "(II)I" } : Jvm.MethodName) prog_1_method_43_code (5 : Nat) (Option.some Jvm.ClassFile.FieldType.int)) ∈ lw_all := lw_g (lw_at lw_m5 25 rfl) rfl
theorem q1104 : (Jvm.Cond.instanceMethod ({ cls := "SeanceStreet", name := "seat", desc := "(I)I" } : Jvm.MethodName)) ∈ lw_all := lw_g (lw_at lw_m5 27 rfl) rfl
theorem q1105 : (Jvm.Cond.selects "SeanceStreet" ({ cls := "SeanceStreet", name := "seat", desc := "(I)I" } : Jvm.MethodName) ({ cls := "SeanceStreet", name := "seat", desc := "(I)I" } : Jvm.MethodName)) ∈ lw_all := lw_g (lw_at lw_m5 28 rfl) rfl
theorem q1106 : (Jvm.Cond.code ({ cls := "SeanceStreet", name := "seat", desc := "(I)I" } : Jvm.MethodName) prog_1_method_46_code (3 : Nat) (Option.some Jvm.ClassFile.FieldType.int)) ∈ lw_all := lw_g (lw_at lw_m5 29 rfl) rfl
theorem q1107 : (Jvm.Cond.methodLink "SeanceStreet" (240 : Nat) ({ cls := "SeanceStreet", name := "seek", desc := "(I)V" } : Jvm.MethodName)) ∈ lw_all := lw_g (lw_at lw_m5 30 rfl) rfl
theorem q1108 : (Jvm.Cond.privateMethod ({ cls := "SeanceStreet", name := "seek", desc := "(I)V" } : Jvm.MethodName)) ∈ lw_tbl := lw_at lw_m5 31 rfl
theorem q1109 : (Jvm.Cond.instanceMethod ({ cls := "SeanceStreet", name := "seek", desc := "(I)V" } : Jvm.MethodName)) ∈ lw_all := lw_g (lw_at lw_m5 32 rfl) rfl
theorem q1110 : (Jvm.Cond.code ({ cls := "SeanceStreet", name := "seek", desc := "(I)V" } : Jvm.MethodName) prog_1_method_45_code (5 : Nat) (Option.none : Option Jvm.ClassFile.FieldType)) ∈ lw_all := lw_g (lw_at lw_m5 33 rfl) rfl
theorem q1111 : (Jvm.Cond.methodLink "SeanceStreet" (236 : Nat) ({ cls := "SeanceStreet", name := "trySeats", desc := "(III)V" } : Jvm.MethodName)) ∈ lw_all := lw_g (lw_at lw_m5 34 rfl) rfl
theorem q1112 : (Jvm.Cond.privateMethod ({ cls := "SeanceStreet", name := "trySeats", desc := "(III)V" } : Jvm.MethodName)) ∈ lw_tbl := lw_at lw_m5 35 rfl
theorem q1113 : (Jvm.Cond.instanceMethod ({ cls := "SeanceStreet", name := "trySeats", desc := "(III)V" } : Jvm.MethodName)) ∈ lw_all := lw_g (lw_at lw_m5 36 rfl) rfl
theorem q1114 : (Jvm.Cond.code ({ cls := "SeanceStreet", name := "trySeats", desc := "(III)V" } : Jvm.MethodName) prog_1_method_44_code (5 : Nat) (Option.none : Option Jvm.ClassFile.FieldType)) ∈ lw_all := lw_g (lw_at lw_m5 37 rfl) rfl
theorem q1115 : (Jvm.Cond.methodLink "SeanceStreet" (226 : Nat) ({ cls := "java/lang/System", name := "arraycopy", desc := "(Ljava/lang/Object;ILjava/lang/Object;II)V" } : Jvm.MethodName)) ∈ lw_all := lw_g (lw_at lw_m5 38 rfl) rfl
theorem q1116 : (Jvm.Cond.methodLink "SeanceStreet" (232 : Nat) ({ cls := "SeanceStreet", name := "has", desc := "(II)Z" } : Jvm.MethodName)) ∈ lw_all := lw_g (lw_at lw_m5 39 rfl) rfl
theorem q1117 : (Jvm.Cond.static ({ cls := "SeanceStreet", name := "has", desc := "(II)Z" } : Jvm.MethodName)) ∈ lw_all := lw_g (lw_at lw_m5 40 rfl) rfl
theorem q1118 : (Jvm.Cond.code ({ cls := "SeanceStreet", name := "has", desc := "(II)Z" } : Jvm.MethodName) prog_1_method_2_code (2 : Nat) (Option.some Jvm.ClassFile.FieldType.boolean)) ∈ lw_all := lw_g (lw_at lw_m5 41 rfl) rfl
theorem q1120 : (Jvm.Cond.instanceMethod ({ cls := "SeanceStreet", name := "seatAt", desc := "(II)I" } : Jvm.MethodName)) ∈ lw_all := lw_g (lw_at lw_m5 43 rfl) rfl
theorem q1121 : (Jvm.Cond.selects "SeanceStreet" ({ cls := "SeanceStreet", name := "seatAt", desc := "(II)I" } : Jvm.MethodName) ({ cls := "SeanceStreet", name := "seatAt", desc := "(II)I" } : Jvm.MethodName)) ∈ lw_all := lw_g (lw_at lw_m5 44 rfl) rfl
theorem q1122 : (Jvm.Cond.code ({ cls := "SeanceStreet", name := "seatAt", desc := "(II)I" } : Jvm.MethodName) prog_1_method_47_code (4 : Nat) (Option.some Jvm.ClassFile.FieldType.int)) ∈ lw_all := lw_g (lw_at lw_m5 45 rfl) rfl
theorem q1124 : (Jvm.Cond.instanceMethod ({ cls := "SeanceStreet", name := "likes", desc := "(III)I" } : Jvm.MethodName)) ∈ lw_all := lw_g (lw_at lw_m5 47 rfl) rfl
theorem q1125 : (Jvm.Cond.selects "SeanceStreet" ({ cls := "SeanceStreet", name := "likes", desc := "(III)I" } : Jvm.MethodName) ({ cls := "SeanceStreet", name := "likes", desc := "(III)I" } : Jvm.MethodName)) ∈ lw_all := lw_g (lw_at lw_m5 48 rfl) rfl
theorem q1126 : (Jvm.Cond.code ({ cls := "SeanceStreet", name := "likes", desc := "(III)I" } : Jvm.MethodName) prog_1_method_49_code (5 : Nat) (Option.some Jvm.ClassFile.FieldType.int)) ∈ lw_all := lw_g (lw_at lw_m5 49 rfl) rfl
theorem q1127 : (Jvm.Cond.methodLink "SeanceStreet" (247 : Nat) ({ cls := "SeanceStreet", name := "doLike", desc := "(III)Z" } : Jvm.MethodName)) ∈ lw_all := lw_g (lw_at lw_m5 50 rfl) rfl
theorem q1128 : (Jvm.Cond.privateMethod ({ cls := "SeanceStreet", name := "doLike", desc := "(III)Z" } : Jvm.MethodName)) ∈ lw_tbl := lw_at lw_m5 51 rfl
theorem q1129 : (Jvm.Cond.instanceMethod ({ cls := "SeanceStreet", name := "doLike", desc := "(III)Z" } : Jvm.MethodName)) ∈ lw_all := lw_g (lw_at lw_m5 52 rfl) rfl
theorem q1130 : (Jvm.Cond.code ({ cls := "SeanceStreet", name := "doLike", desc := "(III)Z" } : Jvm.MethodName) prog_1_method_48_code (6 : Nat) (Option.some Jvm.ClassFile.FieldType.boolean)) ∈ lw_all := lw_g (lw_at lw_m5 53 rfl) rfl
theorem q1131 : (Jvm.Cond.methodLink "SeanceStreet" (243 : Nat) ({ cls := "SeanceStreet$Street", name := "exchange", desc := "(II)LSeanceStreet$Street;" } : Jvm.MethodName)) ∈ lw_all := lw_g (lw_at lw_m5 54 rfl) rfl
theorem q1136 : (Jvm.Cond.instanceMethod ({ cls := "SeanceStreet", name := "restless", desc := "(I)I" } : Jvm.MethodName)) ∈ lw_all := lw_g (lw_at lw_m5 59 rfl) rfl
theorem q1137 : (Jvm.Cond.selects "SeanceStreet" ({ cls := "SeanceStreet", name := "restless", desc := "(I)I" } : Jvm.MethodName) ({ cls := "SeanceStreet", name := "restless", desc := "(I)I" } : Jvm.MethodName)) ∈ lw_all := lw_g (lw_at lw_m5 60 rfl) rfl
theorem q1138 : (Jvm.Cond.code ({ cls := "SeanceStreet", name := "restless", desc := "(I)I" } : Jvm.MethodName) prog_1_method_50_code (6 : Nat) (Option.some Jvm.ClassFile.FieldType.int)) ∈ lw_all := lw_g (lw_at lw_m5 61 rfl) rfl
theorem q1140 : (Jvm.Cond.instanceMethod ({ cls := "SeanceStreet", name := "moveFor", desc := "(II)I" } : Jvm.MethodName)) ∈ lw_all := lw_g (lw_at lw_m5 63 rfl) rfl
theorem q1141 : (Jvm.Cond.selects "SeanceStreet" ({ cls := "SeanceStreet", name := "moveFor", desc := "(II)I" } : Jvm.MethodName) ({ cls := "SeanceStreet", name := "moveFor", desc := "(II)I" } : Jvm.MethodName)) ∈ lw_all := lw_g (lw_at lw_m5 64 rfl) rfl
theorem q1142 : (Jvm.Cond.code ({ cls := "SeanceStreet", name := "moveFor", desc := "(II)I" } : Jvm.MethodName) prog_1_method_51_code (8 : Nat) (Option.some Jvm.ClassFile.FieldType.int)) ∈ lw_all := lw_g (lw_at lw_m5 65 rfl) rfl
theorem q1144 : (Jvm.Cond.instanceMethod ({ cls := "SeanceStreet", name := "bring", desc := "(II)I" } : Jvm.MethodName)) ∈ lw_all := lw_g (lw_at lw_m5 67 rfl) rfl
theorem q1145 : (Jvm.Cond.selects "SeanceStreet" ({ cls := "SeanceStreet", name := "bring", desc := "(II)I" } : Jvm.MethodName) ({ cls := "SeanceStreet", name := "bring", desc := "(II)I" } : Jvm.MethodName)) ∈ lw_all := lw_g (lw_at lw_m5 68 rfl) rfl
theorem q1146 : (Jvm.Cond.code ({ cls := "SeanceStreet", name := "bring", desc := "(II)I" } : Jvm.MethodName) prog_1_method_52_code (4 : Nat) (Option.some Jvm.ClassFile.FieldType.int)) ∈ lw_all := lw_g (lw_at lw_m5 69 rfl) rfl
theorem q1147 : (Jvm.Cond.methodLink "SeanceStreet" (250 : Nat) ({ cls := "SeanceStreet$Walk", name := "lay", desc := "(LSeanceStreet$Town;LSeanceStreet$Street;I)LSeanceStreet$Walk;" } : Jvm.MethodName)) ∈ lw_all := lw_g (lw_at lw_m5 70 rfl) rfl
theorem q1153 : (Jvm.Cond.methodLink "SeanceStreet" (254 : Nat) ({ cls := "SeanceStreet$Walk", name := "least", desc := "(II)I" } : Jvm.MethodName)) ∈ lw_all := lw_g (lw_at lw_m5 76 rfl) rfl
theorem q1170 : (Jvm.Cond.instanceMethod ({ cls := "SeanceStreet", name := "bringFrom", desc := "(I)I" } : Jvm.MethodName)) ∈ lw_all := lw_g (lw_at lw_m5 93 rfl) rfl
theorem q1171 : (Jvm.Cond.selects "SeanceStreet" ({ cls := "SeanceStreet", name := "bringFrom", desc := "(I)I" } : Jvm.MethodName) ({ cls := "SeanceStreet", name := "bringFrom", desc := "(I)I" } : Jvm.MethodName)) ∈ lw_all := lw_g (lw_at lw_m5 94 rfl) rfl
theorem q1172 : (Jvm.Cond.code ({ cls := "SeanceStreet", name := "bringFrom", desc := "(I)I" } : Jvm.MethodName) prog_1_method_53_code (7 : Nat) (Option.some Jvm.ClassFile.FieldType.int)) ∈ lw_all := lw_g (lw_at lw_m5 95 rfl) rfl
theorem q1173 : (Jvm.Cond.constant "SeanceStreet" (257 : Nat) (1000000 : Int32)) ∈ lw_all := lw_g (lw_at lw_m5 96 rfl) rfl
theorem q1175 : (Jvm.Cond.instanceMethod ({ cls := "SeanceStreet", name := "steps", desc := "(II)I" } : Jvm.MethodName)) ∈ lw_all := lw_g (lw_at lw_m5 98 rfl) rfl
theorem q1176 : (Jvm.Cond.selects "SeanceStreet" ({ cls := "SeanceStreet", name := "steps", desc := "(II)I" } : Jvm.MethodName) ({ cls := "SeanceStreet", name := "steps", desc := "(II)I" } : Jvm.MethodName)) ∈ lw_all := lw_g (lw_at lw_m5 99 rfl) rfl
theorem q1177 : (Jvm.Cond.code ({ cls := "SeanceStreet", name := "steps", desc := "(II)I" } : Jvm.MethodName) prog_1_method_54_code (3 : Nat) (Option.some Jvm.ClassFile.FieldType.int)) ∈ lw_all := lw_g (lw_at lw_m5 100 rfl) rfl
theorem q1178 : (Jvm.Cond.methodLink "SeanceStreet" (258 : Nat) ({ cls := "SeanceStreet$Town", name := "between", desc := "(II)I" } : Jvm.MethodName)) ∈ lw_all := lw_g (lw_at lw_m5 101 rfl) rfl
theorem q1189 : (Jvm.Cond.instanceMethod ({ cls := "SeanceStreet", name := "ring", desc := "(II)I" } : Jvm.MethodName)) ∈ lw_all := lw_g (lw_at lw_m5 112 rfl) rfl
theorem q1190 : (Jvm.Cond.selects "SeanceStreet" ({ cls := "SeanceStreet", name := "ring", desc := "(II)I" } : Jvm.MethodName) ({ cls := "SeanceStreet", name := "ring", desc := "(II)I" } : Jvm.MethodName)) ∈ lw_all := lw_g (lw_at lw_m5 113 rfl) rfl
theorem q1191 : (Jvm.Cond.code ({ cls := "SeanceStreet", name := "ring", desc := "(II)I" } : Jvm.MethodName) prog_1_method_56_code (4 : Nat) (Option.some Jvm.ClassFile.FieldType.int)) ∈ lw_all := lw_g (lw_at lw_m5 114 rfl) rfl
theorem q1192 : (Jvm.Cond.methodLink "SeanceStreet" (261 : Nat) ({ cls := "SeanceStreet", name := "ringOf", desc := "(II)I" } : Jvm.MethodName)) ∈ lw_all := lw_g (lw_at lw_m5 115 rfl) rfl
theorem q1193 : (Jvm.Cond.privateMethod ({ cls := "SeanceStreet", name := "ringOf", desc := "(II)I" } : Jvm.MethodName)) ∈ lw_tbl := lw_at lw_m5 116 rfl
theorem q1194 : (Jvm.Cond.instanceMethod ({ cls := "SeanceStreet", name := "ringOf", desc := "(II)I" } : Jvm.MethodName)) ∈ lw_all := lw_g (lw_at lw_m5 117 rfl) rfl
theorem q1195 : (Jvm.Cond.code ({ cls := "SeanceStreet", name := "ringOf", desc := "(II)I" } : Jvm.MethodName) prog_1_method_55_code (6 : Nat) (Option.some Jvm.ClassFile.FieldType.int)) ∈ lw_all := lw_g (lw_at lw_m5 118 rfl) rfl
theorem q1197 : (Jvm.Cond.instanceMethod ({ cls := "SeanceStreet", name := "ringAt", desc := "(III)I" } : Jvm.MethodName)) ∈ lw_all := lw_g (lw_at lw_m5 120 rfl) rfl
theorem q1198 : (Jvm.Cond.selects "SeanceStreet" ({ cls := "SeanceStreet", name := "ringAt", desc := "(III)I" } : Jvm.MethodName) ({ cls := "SeanceStreet", name := "ringAt", desc := "(III)I" } : Jvm.MethodName)) ∈ lw_all := lw_g (lw_at lw_m5 121 rfl) rfl
theorem q1199 : (Jvm.Cond.code ({ cls := "SeanceStreet", name := "ringAt", desc := "(III)I" } : Jvm.MethodName) prog_1_method_57_code (5 : Nat) (Option.some Jvm.ClassFile.FieldType.int)) ∈ lw_all := lw_g (lw_at lw_m5 122 rfl) rfl
theorem q1201 : (Jvm.Cond.instanceMethod ({ cls := "SeanceStreet", name := "fits", desc := "()I" } : Jvm.MethodName)) ∈ lw_all := lw_g (lw_at lw_m5 124 rfl) rfl
theorem q1202 : (Jvm.Cond.selects "SeanceStreet" ({ cls := "SeanceStreet", name := "fits", desc := "()I" } : Jvm.MethodName) ({ cls := "SeanceStreet", name := "fits", desc := "()I" } : Jvm.MethodName)) ∈ lw_all := lw_g (lw_at lw_m5 125 rfl) rfl
theorem q1203 : (Jvm.Cond.code ({ cls := "SeanceStreet", name := "fits", desc := "()I" } : Jvm.MethodName) prog_1_method_60_code (1 : Nat) (Option.some Jvm.ClassFile.FieldType.int)) ∈ lw_all := lw_g (lw_at lw_m5 126 rfl) rfl
theorem q1204 : (Jvm.Cond.methodLink "SeanceStreet" (300 : Nat) ({ cls := "SeanceStreet", name := "fitting", desc := "(I)V" } : Jvm.MethodName)) ∈ lw_all := lw_g (lw_at lw_m5 127 rfl) rfl
theorem q1205 : (Jvm.Cond.privateMethod ({ cls := "SeanceStreet", name := "fitting", desc := "(I)V" } : Jvm.MethodName)) ∈ lw_tbl := lw_at lw_m5 128 rfl
theorem q1206 : (Jvm.Cond.instanceMethod ({ cls := "SeanceStreet", name := "fitting", desc := "(I)V" } : Jvm.MethodName)) ∈ lw_all := lw_g (lw_at lw_m5 129 rfl) rfl
theorem q1207 : (Jvm.Cond.code ({ cls := "SeanceStreet", name := "fitting", desc := "(I)V" } : Jvm.MethodName) prog_1_method_59_code (4 : Nat) (Option.none : Option Jvm.ClassFile.FieldType)) ∈ lw_all := lw_g (lw_at lw_m5 130 rfl) rfl
theorem q1208 : (Jvm.Cond.methodLink "SeanceStreet" (297 : Nat) ({ cls := "SeanceStreet", name := "wrong", desc := "(I)I" } : Jvm.MethodName)) ∈ lw_all := lw_g (lw_at lw_m5 131 rfl) rfl
theorem q1209 : (Jvm.Cond.privateMethod ({ cls := "SeanceStreet", name := "wrong", desc := "(I)I" } : Jvm.MethodName)) ∈ lw_tbl := lw_at lw_m5 132 rfl
theorem q1210 : (Jvm.Cond.instanceMethod ({ cls := "SeanceStreet", name := "wrong", desc := "(I)I" } : Jvm.MethodName)) ∈ lw_all := lw_g (lw_at lw_m5 133 rfl) rfl
theorem q1211 : (Jvm.Cond.code ({ cls := "SeanceStreet", name := "wrong", desc := "(I)I" } : Jvm.MethodName) prog_1_method_58_code (3 : Nat) (Option.some Jvm.ClassFile.FieldType.int)) ∈ lw_all := lw_g (lw_at lw_m5 134 rfl) rfl
theorem q1213 : (Jvm.Cond.instanceMethod ({ cls := "SeanceStreet", name := "fitAt", desc := "(I)I" } : Jvm.MethodName)) ∈ lw_all := lw_g (lw_at lw_m5 136 rfl) rfl
theorem q1214 : (Jvm.Cond.selects "SeanceStreet" ({ cls := "SeanceStreet", name := "fitAt", desc := "(I)I" } : Jvm.MethodName) ({ cls := "SeanceStreet", name := "fitAt", desc := "(I)I" } : Jvm.MethodName)) ∈ lw_all := lw_g (lw_at lw_m5 137 rfl) rfl
theorem q1215 : (Jvm.Cond.code ({ cls := "SeanceStreet", name := "fitAt", desc := "(I)I" } : Jvm.MethodName) prog_1_method_61_code (2 : Nat) (Option.some Jvm.ClassFile.FieldType.int)) ∈ lw_all := lw_g (lw_at lw_m5 138 rfl) rfl
theorem q1217 : (Jvm.Cond.instanceMethod ({ cls := "SeanceStreet", name := "could", desc := "()I" } : Jvm.MethodName)) ∈ lw_all := lw_g (lw_at lw_m5 140 rfl) rfl
theorem q1218 : (Jvm.Cond.selects "SeanceStreet" ({ cls := "SeanceStreet", name := "could", desc := "()I" } : Jvm.MethodName) ({ cls := "SeanceStreet", name := "could", desc := "()I" } : Jvm.MethodName)) ∈ lw_all := lw_g (lw_at lw_m5 141 rfl) rfl
theorem q1219 : (Jvm.Cond.code ({ cls := "SeanceStreet", name := "could", desc := "()I" } : Jvm.MethodName) prog_1_method_62_code (1 : Nat) (Option.some Jvm.ClassFile.FieldType.int)) ∈ lw_all := lw_g (lw_at lw_m5 142 rfl) rfl
theorem q1221 : (Jvm.Cond.instanceMethod ({ cls := "SeanceStreet", name := "surely", desc := "()I" } : Jvm.MethodName)) ∈ lw_all := lw_g (lw_at lw_m5 144 rfl) rfl
theorem q1222 : (Jvm.Cond.selects "SeanceStreet" ({ cls := "SeanceStreet", name := "surely", desc := "()I" } : Jvm.MethodName) ({ cls := "SeanceStreet", name := "surely", desc := "()I" } : Jvm.MethodName)) ∈ lw_all := lw_g (lw_at lw_m5 145 rfl) rfl
theorem q1223 : (Jvm.Cond.code ({ cls := "SeanceStreet", name := "surely", desc := "()I" } : Jvm.MethodName) prog_1_method_63_code (1 : Nat) (Option.some Jvm.ClassFile.FieldType.int)) ∈ lw_all := lw_g (lw_at lw_m5 146 rfl) rfl
theorem q1225 : (Jvm.Cond.instanceMethod ({ cls := "SeanceStreet", name := "ask", desc := "()I" } : Jvm.MethodName)) ∈ lw_all := lw_g (lw_at lw_m5 148 rfl) rfl
theorem q1226 : (Jvm.Cond.selects "SeanceStreet" ({ cls := "SeanceStreet", name := "ask", desc := "()I" } : Jvm.MethodName) ({ cls := "SeanceStreet", name := "ask", desc := "()I" } : Jvm.MethodName)) ∈ lw_all := lw_g (lw_at lw_m5 149 rfl) rfl
theorem q1227 : (Jvm.Cond.code ({ cls := "SeanceStreet", name := "ask", desc := "()I" } : Jvm.MethodName) prog_1_method_66_code (1 : Nat) (Option.some Jvm.ClassFile.FieldType.int)) ∈ lw_all := lw_g (lw_at lw_m5 150 rfl) rfl
theorem q1228 : (Jvm.Cond.methodLink "SeanceStreet" (311 : Nat) ({ cls := "SeanceStreet", name := "askOf", desc := "()I" } : Jvm.MethodName)) ∈ lw_all := lw_g (lw_at lw_m5 151 rfl) rfl
theorem q1229 : (Jvm.Cond.privateMethod ({ cls := "SeanceStreet", name := "askOf", desc := "()I" } : Jvm.MethodName)) ∈ lw_tbl := lw_at lw_m5 152 rfl
theorem q1230 : (Jvm.Cond.instanceMethod ({ cls := "SeanceStreet", name := "askOf", desc := "()I" } : Jvm.MethodName)) ∈ lw_all := lw_g (lw_at lw_m5 153 rfl) rfl
theorem q1231 : (Jvm.Cond.code ({ cls := "SeanceStreet", name := "askOf", desc := "()I" } : Jvm.MethodName) prog_1_method_65_code (3 : Nat) (Option.some Jvm.ClassFile.FieldType.int)) ∈ lw_all := lw_g (lw_at lw_m5 154 rfl) rfl
theorem q1232 : (Jvm.Cond.methodLink "SeanceStreet" (308 : Nat) ({ cls := "SeanceStreet", name := "leaves", desc := "(I)I" } : Jvm.MethodName)) ∈ lw_all := lw_g (lw_at lw_m5 155 rfl) rfl
theorem q1233 : (Jvm.Cond.privateMethod ({ cls := "SeanceStreet", name := "leaves", desc := "(I)I" } : Jvm.MethodName)) ∈ lw_tbl := lw_at lw_m5 156 rfl
theorem q1234 : (Jvm.Cond.instanceMethod ({ cls := "SeanceStreet", name := "leaves", desc := "(I)I" } : Jvm.MethodName)) ∈ lw_all := lw_g (lw_at lw_m5 157 rfl) rfl
theorem q1235 : (Jvm.Cond.code ({ cls := "SeanceStreet", name := "leaves", desc := "(I)I" } : Jvm.MethodName) prog_1_method_64_code (2 : Nat) (Option.some Jvm.ClassFile.FieldType.int)) ∈ lw_all := lw_g (lw_at lw_m5 158 rfl) rfl
theorem q1236 : (Jvm.Cond.methodLink "SeanceStreet" (303 : Nat) ({ cls := "java/lang/Math", name := "max", desc := "(II)I" } : Jvm.MethodName)) ∈ lw_all := lw_g (lw_at lw_m5 159 rfl) rfl
theorem q1238 : (Jvm.Cond.instanceMethod ({ cls := "SeanceStreet", name := "askLeaves", desc := "()I" } : Jvm.MethodName)) ∈ lw_all := lw_g (lw_at lw_m5 161 rfl) rfl
theorem q1239 : (Jvm.Cond.selects "SeanceStreet" ({ cls := "SeanceStreet", name := "askLeaves", desc := "()I" } : Jvm.MethodName) ({ cls := "SeanceStreet", name := "askLeaves", desc := "()I" } : Jvm.MethodName)) ∈ lw_all := lw_g (lw_at lw_m5 162 rfl) rfl
theorem q1240 : (Jvm.Cond.code ({ cls := "SeanceStreet", name := "askLeaves", desc := "()I" } : Jvm.MethodName) prog_1_method_67_code (2 : Nat) (Option.some Jvm.ClassFile.FieldType.int)) ∈ lw_all := lw_g (lw_at lw_m5 163 rfl) rfl
theorem q1242 : (Jvm.Cond.instanceMethod ({ cls := "SeanceStreet", name := "judge", desc := "()I" } : Jvm.MethodName)) ∈ lw_all := lw_g (lw_at lw_m5 165 rfl) rfl
theorem q1243 : (Jvm.Cond.selects "SeanceStreet" ({ cls := "SeanceStreet", name := "judge", desc := "()I" } : Jvm.MethodName) ({ cls := "SeanceStreet", name := "judge", desc := "()I" } : Jvm.MethodName)) ∈ lw_all := lw_g (lw_at lw_m5 166 rfl) rfl
theorem q1244 : (Jvm.Cond.code ({ cls := "SeanceStreet", name := "judge", desc := "()I" } : Jvm.MethodName) prog_1_method_68_code (1 : Nat) (Option.some Jvm.ClassFile.FieldType.int)) ∈ lw_all := lw_g (lw_at lw_m5 167 rfl) rfl
theorem q1246 : (Jvm.Cond.instanceMethod ({ cls := "SeanceStreet", name := "chat", desc := "(IZZZ)I" } : Jvm.MethodName)) ∈ lw_all := lw_g (lw_at lw_m5 169 rfl) rfl
theorem q1247 : (Jvm.Cond.selects "SeanceStreet" ({ cls := "SeanceStreet", name := "chat", desc := "(IZZZ)I" } : Jvm.MethodName) ({ cls := "SeanceStreet", name := "chat", desc := "(IZZZ)I" } : Jvm.MethodName)) ∈ lw_all := lw_g (lw_at lw_m5 170 rfl) rfl
theorem q1248 : (Jvm.Cond.code ({ cls := "SeanceStreet", name := "chat", desc := "(IZZZ)I" } : Jvm.MethodName) prog_1_method_70_code (5 : Nat) (Option.some Jvm.ClassFile.FieldType.int)) ∈ lw_all := lw_g (lw_at lw_m5 171 rfl) rfl
theorem q1249 : (Jvm.Cond.methodLink "SeanceStreet" (314 : Nat) ({ cls := "SeanceStreet", name := "chatted", desc := "(IZZ)I" } : Jvm.MethodName)) ∈ lw_all := lw_g (lw_at lw_m5 172 rfl) rfl
theorem q1250 : (Jvm.Cond.static ({ cls := "SeanceStreet", name := "chatted", desc := "(IZZ)I" } : Jvm.MethodName)) ∈ lw_all := lw_g (lw_at lw_m5 173 rfl) rfl
theorem q1251 : (Jvm.Cond.code ({ cls := "SeanceStreet", name := "chatted", desc := "(IZZ)I" } : Jvm.MethodName) prog_1_method_69_code (3 : Nat) (Option.some Jvm.ClassFile.FieldType.int)) ∈ lw_all := lw_g (lw_at lw_m5 174 rfl) rfl
theorem q1253 : (Jvm.Cond.instanceMethod ({ cls := "SeanceStreet", name := "rests", desc := "(I)I" } : Jvm.MethodName)) ∈ lw_all := lw_g (lw_at lw_m5 176 rfl) rfl
theorem q1254 : (Jvm.Cond.selects "SeanceStreet" ({ cls := "SeanceStreet", name := "rests", desc := "(I)I" } : Jvm.MethodName) ({ cls := "SeanceStreet", name := "rests", desc := "(I)I" } : Jvm.MethodName)) ∈ lw_all := lw_g (lw_at lw_m5 177 rfl) rfl
theorem q1255 : (Jvm.Cond.code ({ cls := "SeanceStreet", name := "rests", desc := "(I)I" } : Jvm.MethodName) prog_1_method_73_code (3 : Nat) (Option.some Jvm.ClassFile.FieldType.int)) ∈ lw_all := lw_g (lw_at lw_m5 178 rfl) rfl
theorem q1256 : (Jvm.Cond.methodLink "SeanceStreet" (325 : Nat) ({ cls := "SeanceStreet", name := "seekRests", desc := "(I)I" } : Jvm.MethodName)) ∈ lw_all := lw_g (lw_at lw_m5 179 rfl) rfl
theorem q1257 : (Jvm.Cond.privateMethod ({ cls := "SeanceStreet", name := "seekRests", desc := "(I)I" } : Jvm.MethodName)) ∈ lw_tbl := lw_at lw_m5 180 rfl
theorem q1258 : (Jvm.Cond.instanceMethod ({ cls := "SeanceStreet", name := "seekRests", desc := "(I)I" } : Jvm.MethodName)) ∈ lw_all := lw_g (lw_at lw_m5 181 rfl) rfl
theorem q1259 : (Jvm.Cond.code ({ cls := "SeanceStreet", name := "seekRests", desc := "(I)I" } : Jvm.MethodName) prog_1_method_72_code (4 : Nat) (Option.some Jvm.ClassFile.FieldType.int)) ∈ lw_all := lw_g (lw_at lw_m5 182 rfl) rfl
theorem q1260 : (Jvm.Cond.methodLink "SeanceStreet" (321 : Nat) ({ cls := "SeanceStreet", name := "isRest", desc := "(IZZ)Z" } : Jvm.MethodName)) ∈ lw_all := lw_g (lw_at lw_m5 183 rfl) rfl
theorem q1261 : (Jvm.Cond.static ({ cls := "SeanceStreet", name := "isRest", desc := "(IZZ)Z" } : Jvm.MethodName)) ∈ lw_all := lw_g (lw_at lw_m5 184 rfl) rfl
theorem q1262 : (Jvm.Cond.code ({ cls := "SeanceStreet", name := "isRest", desc := "(IZZ)Z" } : Jvm.MethodName) prog_1_method_71_code (3 : Nat) (Option.some Jvm.ClassFile.FieldType.boolean)) ∈ lw_all := lw_g (lw_at lw_m5 185 rfl) rfl
theorem q1264 : (Jvm.Cond.instanceMethod ({ cls := "SeanceStreet", name := "rest", desc := "(I)I" } : Jvm.MethodName)) ∈ lw_all := lw_g (lw_at lw_m5 187 rfl) rfl
theorem q1265 : (Jvm.Cond.selects "SeanceStreet" ({ cls := "SeanceStreet", name := "rest", desc := "(I)I" } : Jvm.MethodName) ({ cls := "SeanceStreet", name := "rest", desc := "(I)I" } : Jvm.MethodName)) ∈ lw_all := lw_g (lw_at lw_m5 188 rfl) rfl
theorem q1266 : (Jvm.Cond.code ({ cls := "SeanceStreet", name := "rest", desc := "(I)I" } : Jvm.MethodName) prog_1_method_74_code (3 : Nat) (Option.some Jvm.ClassFile.FieldType.int)) ∈ lw_all := lw_g (lw_at lw_m5 189 rfl) rfl
theorem q1268 : (Jvm.Cond.instanceMethod ({ cls := "SeanceStreet", name := "odds", desc := "(IIZ)J" } : Jvm.MethodName)) ∈ lw_all := lw_g (lw_at lw_m5 191 rfl) rfl
theorem q1269 : (Jvm.Cond.selects "SeanceStreet" ({ cls := "SeanceStreet", name := "odds", desc := "(IIZ)J" } : Jvm.MethodName) ({ cls := "SeanceStreet", name := "odds", desc := "(IIZ)J" } : Jvm.MethodName)) ∈ lw_all := lw_g (lw_at lw_m5 192 rfl) rfl
theorem q1270 : (Jvm.Cond.code ({ cls := "SeanceStreet", name := "odds", desc := "(IIZ)J" } : Jvm.MethodName) prog_1_method_75_code (7 : Nat) (Option.some Jvm.ClassFile.FieldType.long)) ∈ lw_all := lw_g (lw_at lw_m5 193 rfl) rfl
theorem q1271 : (Jvm.Cond.constantLong "SeanceStreet" (331 : Nat) (100 : Int64)) ∈ lw_all := lw_g (lw_at lw_m5 194 rfl) rfl
theorem q1272 : (Jvm.Cond.methodLink "SeanceStreet" (333 : Nat) ({ cls := "SeanceStreet", name := "lowest", desc := "(JJZ)J" } : Jvm.MethodName)) ∈ lw_all := lw_g (lw_at lw_m5 195 rfl) rfl
theorem q1273 : (Jvm.Cond.static ({ cls := "SeanceStreet", name := "lowest", desc := "(JJZ)J" } : Jvm.MethodName)) ∈ lw_all := lw_g (lw_at lw_m5 196 rfl) rfl
theorem q1274 : (Jvm.Cond.code ({ cls := "SeanceStreet", name := "lowest", desc := "(JJZ)J" } : Jvm.MethodName) prog_1_method_5_code (5 : Nat) (Option.some Jvm.ClassFile.FieldType.long)) ∈ lw_all := lw_g (lw_at lw_m5 197 rfl) rfl
theorem q1276 : (Jvm.Cond.instanceMethod ({ cls := "SeanceStreet", name := "most", desc := "(IIZ)J" } : Jvm.MethodName)) ∈ lw_all := lw_g (lw_at lw_m5 199 rfl) rfl
theorem q1277 : (Jvm.Cond.selects "SeanceStreet" ({ cls := "SeanceStreet", name := "most", desc := "(IIZ)J" } : Jvm.MethodName) ({ cls := "SeanceStreet", name := "most", desc := "(IIZ)J" } : Jvm.MethodName)) ∈ lw_all := lw_g (lw_at lw_m5 200 rfl) rfl
theorem q1278 : (Jvm.Cond.code ({ cls := "SeanceStreet", name := "most", desc := "(IIZ)J" } : Jvm.MethodName) prog_1_method_77_code (5 : Nat) (Option.some Jvm.ClassFile.FieldType.long)) ∈ lw_all := lw_g (lw_at lw_m5 201 rfl) rfl
theorem q1279 : (Jvm.Cond.methodLink "SeanceStreet" (347 : Nat) ({ cls := "SeanceStreet", name := "tryLips", desc := "(III)V" } : Jvm.MethodName)) ∈ lw_all := lw_g (lw_at lw_m5 202 rfl) rfl
theorem q1280 : (Jvm.Cond.privateMethod ({ cls := "SeanceStreet", name := "tryLips", desc := "(III)V" } : Jvm.MethodName)) ∈ lw_tbl := lw_at lw_m5 203 rfl
theorem q1281 : (Jvm.Cond.instanceMethod ({ cls := "SeanceStreet", name := "tryLips", desc := "(III)V" } : Jvm.MethodName)) ∈ lw_all := lw_g (lw_at lw_m5 204 rfl) rfl
theorem q1282 : (Jvm.Cond.code ({ cls := "SeanceStreet", name := "tryLips", desc := "(III)V" } : Jvm.MethodName) prog_1_method_76_code (11 : Nat) (Option.none : Option Jvm.ClassFile.FieldType)) ∈ lw_all := lw_g (lw_at lw_m5 205 rfl) rfl
theorem q1284 : (Jvm.Cond.instanceMethod ({ cls := "SeanceStreet", name := "mean", desc := "(IIZ)J" } : Jvm.MethodName)) ∈ lw_all := lw_g (lw_at lw_m5 207 rfl) rfl
theorem q1285 : (Jvm.Cond.selects "SeanceStreet" ({ cls := "SeanceStreet", name := "mean", desc := "(IIZ)J" } : Jvm.MethodName) ({ cls := "SeanceStreet", name := "mean", desc := "(IIZ)J" } : Jvm.MethodName)) ∈ lw_all := lw_g (lw_at lw_m5 208 rfl) rfl
theorem q1286 : (Jvm.Cond.code ({ cls := "SeanceStreet", name := "mean", desc := "(IIZ)J" } : Jvm.MethodName) prog_1_method_78_code (5 : Nat) (Option.some Jvm.ClassFile.FieldType.long)) ∈ lw_all := lw_g (lw_at lw_m5 209 rfl) rfl
theorem q1288 : (Jvm.Cond.instanceMethod ({ cls := "SeanceStreet", name := "heardBy", desc := "(III)I" } : Jvm.MethodName)) ∈ lw_all := lw_g (lw_at lw_m5 211 rfl) rfl
theorem q1289 : (Jvm.Cond.selects "SeanceStreet" ({ cls := "SeanceStreet", name := "heardBy", desc := "(III)I" } : Jvm.MethodName) ({ cls := "SeanceStreet", name := "heardBy", desc := "(III)I" } : Jvm.MethodName)) ∈ lw_all := lw_g (lw_at lw_m5 212 rfl) rfl
theorem q1290 : (Jvm.Cond.code ({ cls := "SeanceStreet", name := "heardBy", desc := "(III)I" } : Jvm.MethodName) prog_1_method_80_code (5 : Nat) (Option.some Jvm.ClassFile.FieldType.int)) ∈ lw_all := lw_g (lw_at lw_m5 213 rfl) rfl
theorem q1291 : (Jvm.Cond.methodLink "SeanceStreet" (358 : Nat) ({ cls := "SeanceStreet", name := "drawWhy", desc := "(ZIII)I" } : Jvm.MethodName)) ∈ lw_all := lw_g (lw_at lw_m5 214 rfl) rfl
theorem q1292 : (Jvm.Cond.privateMethod ({ cls := "SeanceStreet", name := "drawWhy", desc := "(ZIII)I" } : Jvm.MethodName)) ∈ lw_tbl := lw_at lw_m5 215 rfl
theorem q1293 : (Jvm.Cond.instanceMethod ({ cls := "SeanceStreet", name := "drawWhy", desc := "(ZIII)I" } : Jvm.MethodName)) ∈ lw_all := lw_g (lw_at lw_m5 216 rfl) rfl
theorem q1294 : (Jvm.Cond.code ({ cls := "SeanceStreet", name := "drawWhy", desc := "(ZIII)I" } : Jvm.MethodName) prog_1_method_79_code (10 : Nat) (Option.some Jvm.ClassFile.FieldType.int)) ∈ lw_all := lw_g (lw_at lw_m5 217 rfl) rfl
theorem q1295 : (Jvm.Cond.constant "SeanceStreet" (350 : Nat) (65536 : Int32)) ∈ lw_all := lw_g (lw_at lw_m5 218 rfl) rfl
theorem q1296 : (Jvm.Cond.constant "SeanceStreet" (357 : Nat) (65537 : Int32)) ∈ lw_all := lw_g (lw_at lw_m5 219 rfl) rfl
theorem q1298 : (Jvm.Cond.instanceMethod ({ cls := "SeanceStreet", name := "rights", desc := "(II)I" } : Jvm.MethodName)) ∈ lw_all := lw_g (lw_at lw_m5 221 rfl) rfl
theorem q1299 : (Jvm.Cond.selects "SeanceStreet" ({ cls := "SeanceStreet", name := "rights", desc := "(II)I" } : Jvm.MethodName) ({ cls := "SeanceStreet", name := "rights", desc := "(II)I" } : Jvm.MethodName)) ∈ lw_all := lw_g (lw_at lw_m5 222 rfl) rfl
theorem q1300 : (Jvm.Cond.code ({ cls := "SeanceStreet", name := "rights", desc := "(II)I" } : Jvm.MethodName) prog_1_method_81_code (4 : Nat) (Option.some Jvm.ClassFile.FieldType.int)) ∈ lw_all := lw_g (lw_at lw_m5 223 rfl) rfl
theorem q1302 : (Jvm.Cond.instanceMethod ({ cls := "SeanceStreet", name := "night", desc := "()I" } : Jvm.MethodName)) ∈ lw_all := lw_g (lw_at lw_m5 225 rfl) rfl
theorem q1303 : (Jvm.Cond.selects "SeanceStreet" ({ cls := "SeanceStreet", name := "night", desc := "()I" } : Jvm.MethodName) ({ cls := "SeanceStreet", name := "night", desc := "()I" } : Jvm.MethodName)) ∈ lw_all := lw_g (lw_at lw_m5 226 rfl) rfl
theorem q1304 : (Jvm.Cond.code ({ cls := "SeanceStreet", name := "night", desc := "()I" } : Jvm.MethodName) prog_1_method_84_code (1 : Nat) (Option.some Jvm.ClassFile.FieldType.int)) ∈ lw_all := lw_g (lw_at lw_m5 227 rfl) rfl
theorem q1305 : (Jvm.Cond.methodLink "SeanceStreet" (362 : Nat) ({ cls := "SeanceStreet", name := "note", desc := "()V" } : Jvm.MethodName)) ∈ lw_all := lw_g (lw_at lw_m5 228 rfl) rfl
theorem q1306 : (Jvm.Cond.privateMethod ({ cls := "SeanceStreet", name := "note", desc := "()V" } : Jvm.MethodName)) ∈ lw_tbl := lw_at lw_m5 229 rfl
theorem q1307 : (Jvm.Cond.instanceMethod ({ cls := "SeanceStreet", name := "note", desc := "()V" } : Jvm.MethodName)) ∈ lw_all := lw_g (lw_at lw_m5 230 rfl) rfl
theorem q1308 : (Jvm.Cond.code ({ cls := "SeanceStreet", name := "note", desc := "()V" } : Jvm.MethodName) prog_1_method_82_code (1 : Nat) (Option.none : Option Jvm.ClassFile.FieldType)) ∈ lw_all := lw_g (lw_at lw_m5 231 rfl) rfl
theorem q1309 : (Jvm.Cond.methodLink "SeanceStreet" (365 : Nat) ({ cls := "SeanceStreet", name := "done", desc := "()Z" } : Jvm.MethodName)) ∈ lw_all := lw_g (lw_at lw_m5 232 rfl) rfl
theorem q1310 : (Jvm.Cond.privateMethod ({ cls := "SeanceStreet", name := "done", desc := "()Z" } : Jvm.MethodName)) ∈ lw_tbl := lw_at lw_m5 233 rfl
theorem q1311 : (Jvm.Cond.instanceMethod ({ cls := "SeanceStreet", name := "done", desc := "()Z" } : Jvm.MethodName)) ∈ lw_all := lw_g (lw_at lw_m5 234 rfl) rfl
theorem q1312 : (Jvm.Cond.code ({ cls := "SeanceStreet", name := "done", desc := "()Z" } : Jvm.MethodName) prog_1_method_83_code (3 : Nat) (Option.some Jvm.ClassFile.FieldType.boolean)) ∈ lw_all := lw_g (lw_at lw_m5 235 rfl) rfl
theorem q1314 : (Jvm.Cond.instanceMethod ({ cls := "SeanceStreet", name := "move", desc := "(II)I" } : Jvm.MethodName)) ∈ lw_all := lw_g (lw_at lw_m5 237 rfl) rfl
theorem q1315 : (Jvm.Cond.selects "SeanceStreet" ({ cls := "SeanceStreet", name := "move", desc := "(II)I" } : Jvm.MethodName) ({ cls := "SeanceStreet", name := "move", desc := "(II)I" } : Jvm.MethodName)) ∈ lw_all := lw_g (lw_at lw_m5 238 rfl) rfl
theorem q1316 : (Jvm.Cond.code ({ cls := "SeanceStreet", name := "move", desc := "(II)I" } : Jvm.MethodName) prog_1_method_85_code (3 : Nat) (Option.some Jvm.ClassFile.FieldType.int)) ∈ lw_all := lw_g (lw_at lw_m5 239 rfl) rfl
theorem q1318 : (Jvm.Cond.instanceMethod ({ cls := "SeanceStreet", name := "hang", desc := "(II)Z" } : Jvm.MethodName)) ∈ lw_all := lw_g (lw_at lw_m6 1 rfl) rfl
theorem q1319 : (Jvm.Cond.selects "SeanceStreet" ({ cls := "SeanceStreet", name := "hang", desc := "(II)Z" } : Jvm.MethodName) ({ cls := "SeanceStreet", name := "hang", desc := "(II)Z" } : Jvm.MethodName)) ∈ lw_all := lw_g (lw_at lw_m6 2 rfl) rfl
theorem q1320 : (Jvm.Cond.code ({ cls := "SeanceStreet", name := "hang", desc := "(II)Z" } : Jvm.MethodName) prog_1_method_87_code (3 : Nat) (Option.some Jvm.ClassFile.FieldType.boolean)) ∈ lw_all := lw_g (lw_at lw_m6 3 rfl) rfl
theorem q1321 : (Jvm.Cond.methodLink "SeanceStreet" (369 : Nat) ({ cls := "SeanceStreet", name := "yes", desc := "(I)Z" } : Jvm.MethodName)) ∈ lw_all := lw_g (lw_at lw_m6 4 rfl) rfl
theorem q1322 : (Jvm.Cond.privateMethod ({ cls := "SeanceStreet", name := "yes", desc := "(I)Z" } : Jvm.MethodName)) ∈ lw_tbl := lw_at lw_m6 5 rfl
theorem q1323 : (Jvm.Cond.instanceMethod ({ cls := "SeanceStreet", name := "yes", desc := "(I)Z" } : Jvm.MethodName)) ∈ lw_all := lw_g (lw_at lw_m6 6 rfl) rfl
theorem q1324 : (Jvm.Cond.code ({ cls := "SeanceStreet", name := "yes", desc := "(I)Z" } : Jvm.MethodName) prog_1_method_10_code (2 : Nat) (Option.some Jvm.ClassFile.FieldType.boolean)) ∈ lw_all := lw_g (lw_at lw_m6 7 rfl) rfl
theorem q1325 : (Jvm.Cond.methodLink "SeanceStreet" (372 : Nat) ({ cls := "SeanceStreet", name := "hangs", desc := "(II)Z" } : Jvm.MethodName)) ∈ lw_all := lw_g (lw_at lw_m6 8 rfl) rfl
theorem q1326 : (Jvm.Cond.privateMethod ({ cls := "SeanceStreet", name := "hangs", desc := "(II)Z" } : Jvm.MethodName)) ∈ lw_tbl := lw_at lw_m6 9 rfl
theorem q1327 : (Jvm.Cond.instanceMethod ({ cls := "SeanceStreet", name := "hangs", desc := "(II)Z" } : Jvm.MethodName)) ∈ lw_all := lw_g (lw_at lw_m6 10 rfl) rfl
theorem q1328 : (Jvm.Cond.code ({ cls := "SeanceStreet", name := "hangs", desc := "(II)Z" } : Jvm.MethodName) prog_1_method_86_code (3 : Nat) (Option.some Jvm.ClassFile.FieldType.boolean)) ∈ lw_all := lw_g (lw_at lw_m6 11 rfl) rfl
theorem q1330 : (Jvm.Cond.instanceMethod ({ cls := "SeanceStreet", name := "take", desc := "(I)Z" } : Jvm.MethodName)) ∈ lw_all := lw_g (lw_at lw_m6 13 rfl) rfl
theorem q1331 : (Jvm.Cond.selects "SeanceStreet" ({ cls := "SeanceStreet", name := "take", desc := "(I)Z" } : Jvm.MethodName) ({ cls := "SeanceStreet", name := "take", desc := "(I)Z" } : Jvm.MethodName)) ∈ lw_all := lw_g (lw_at lw_m6 14 rfl) rfl
theorem q1332 : (Jvm.Cond.code ({ cls := "SeanceStreet", name := "take", desc := "(I)Z" } : Jvm.MethodName) prog_1_method_88_code (2 : Nat) (Option.some Jvm.ClassFile.FieldType.boolean)) ∈ lw_all := lw_g (lw_at lw_m6 15 rfl) rfl
theorem q1334 : (Jvm.Cond.instanceMethod ({ cls := "SeanceStreet", name := "teach", desc := "(II)Z" } : Jvm.MethodName)) ∈ lw_all := lw_g (lw_at lw_m6 17 rfl) rfl
theorem q1335 : (Jvm.Cond.selects "SeanceStreet" ({ cls := "SeanceStreet", name := "teach", desc := "(II)Z" } : Jvm.MethodName) ({ cls := "SeanceStreet", name := "teach", desc := "(II)Z" } : Jvm.MethodName)) ∈ lw_all := lw_g (lw_at lw_m6 18 rfl) rfl
theorem q1336 : (Jvm.Cond.code ({ cls := "SeanceStreet", name := "teach", desc := "(II)Z" } : Jvm.MethodName) prog_1_method_89_code (3 : Nat) (Option.some Jvm.ClassFile.FieldType.boolean)) ∈ lw_all := lw_g (lw_at lw_m6 19 rfl) rfl
theorem q1338 : (Jvm.Cond.instanceMethod ({ cls := "SeanceStreet", name := "undo", desc := "()Z" } : Jvm.MethodName)) ∈ lw_all := lw_g (lw_at lw_m6 21 rfl) rfl
theorem q1339 : (Jvm.Cond.selects "SeanceStreet" ({ cls := "SeanceStreet", name := "undo", desc := "()Z" } : Jvm.MethodName) ({ cls := "SeanceStreet", name := "undo", desc := "()Z" } : Jvm.MethodName)) ∈ lw_all := lw_g (lw_at lw_m6 22 rfl) rfl
theorem q1340 : (Jvm.Cond.code ({ cls := "SeanceStreet", name := "undo", desc := "()Z" } : Jvm.MethodName) prog_1_method_90_code (1 : Nat) (Option.some Jvm.ClassFile.FieldType.boolean)) ∈ lw_all := lw_g (lw_at lw_m6 23 rfl) rfl
theorem q1342 : (Jvm.Cond.instanceMethod ({ cls := "SeanceStreet", name := "image", desc := "()I" } : Jvm.MethodName)) ∈ lw_all := lw_g (lw_at lw_m6 25 rfl) rfl
theorem q1343 : (Jvm.Cond.selects "SeanceStreet" ({ cls := "SeanceStreet", name := "image", desc := "()I" } : Jvm.MethodName) ({ cls := "SeanceStreet", name := "image", desc := "()I" } : Jvm.MethodName)) ∈ lw_all := lw_g (lw_at lw_m6 26 rfl) rfl
theorem q1344 : (Jvm.Cond.code ({ cls := "SeanceStreet", name := "image", desc := "()I" } : Jvm.MethodName) prog_1_method_91_code (1 : Nat) (Option.some Jvm.ClassFile.FieldType.int)) ∈ lw_all := lw_g (lw_at lw_m6 27 rfl) rfl
theorem q1346 : (Jvm.Cond.instanceMethod ({ cls := "SeanceStreet", name := "back", desc := "(I)Z" } : Jvm.MethodName)) ∈ lw_all := lw_g (lw_at lw_m6 29 rfl) rfl
theorem q1347 : (Jvm.Cond.selects "SeanceStreet" ({ cls := "SeanceStreet", name := "back", desc := "(I)Z" } : Jvm.MethodName) ({ cls := "SeanceStreet", name := "back", desc := "(I)Z" } : Jvm.MethodName)) ∈ lw_all := lw_g (lw_at lw_m6 30 rfl) rfl
theorem q1348 : (Jvm.Cond.code ({ cls := "SeanceStreet", name := "back", desc := "(I)Z" } : Jvm.MethodName) prog_1_method_92_code (2 : Nat) (Option.some Jvm.ClassFile.FieldType.boolean)) ∈ lw_all := lw_g (lw_at lw_m6 31 rfl) rfl
theorem q1350 : (Jvm.Cond.instanceMethod ({ cls := "SeanceStreet", name := "size", desc := "(I)I" } : Jvm.MethodName)) ∈ lw_all := lw_g (lw_at lw_m6 33 rfl) rfl
theorem q1351 : (Jvm.Cond.selects "SeanceStreet" ({ cls := "SeanceStreet", name := "size", desc := "(I)I" } : Jvm.MethodName) ({ cls := "SeanceStreet", name := "size", desc := "(I)I" } : Jvm.MethodName)) ∈ lw_all := lw_g (lw_at lw_m6 34 rfl) rfl
theorem q1352 : (Jvm.Cond.code ({ cls := "SeanceStreet", name := "size", desc := "(I)I" } : Jvm.MethodName) prog_1_method_94_code (2 : Nat) (Option.some Jvm.ClassFile.FieldType.int)) ∈ lw_all := lw_g (lw_at lw_m6 35 rfl) rfl
theorem q1353 : (Jvm.Cond.methodLink "SeanceStreet" (378 : Nat) ({ cls := "SeanceStreet$Street", name := "hung", desc := "()I" } : Jvm.MethodName)) ∈ lw_all := lw_g (lw_at lw_m6 36 rfl) rfl
theorem q1358 : (Jvm.Cond.instanceMethod ({ cls := "SeanceStreet", name := "trouble", desc := "()I" } : Jvm.MethodName)) ∈ lw_all := lw_g (lw_at lw_m6 41 rfl) rfl
theorem q1359 : (Jvm.Cond.selects "SeanceStreet" ({ cls := "SeanceStreet", name := "trouble", desc := "()I" } : Jvm.MethodName) ({ cls := "SeanceStreet", name := "trouble", desc := "()I" } : Jvm.MethodName)) ∈ lw_all := lw_g (lw_at lw_m6 42 rfl) rfl
theorem q1360 : (Jvm.Cond.code ({ cls := "SeanceStreet", name := "trouble", desc := "()I" } : Jvm.MethodName) prog_1_method_95_code (1 : Nat) (Option.some Jvm.ClassFile.FieldType.int)) ∈ lw_all := lw_g (lw_at lw_m6 43 rfl) rfl
theorem q1366 : (Jvm.Cond.instanceMethod ({ cls := "SeanceStreet", name := "led", desc := "(I)I" } : Jvm.MethodName)) ∈ lw_all := lw_g (lw_at lw_m6 49 rfl) rfl
theorem q1367 : (Jvm.Cond.selects "SeanceStreet" ({ cls := "SeanceStreet", name := "led", desc := "(I)I" } : Jvm.MethodName) ({ cls := "SeanceStreet", name := "led", desc := "(I)I" } : Jvm.MethodName)) ∈ lw_all := lw_g (lw_at lw_m6 50 rfl) rfl
theorem q1368 : (Jvm.Cond.code ({ cls := "SeanceStreet", name := "led", desc := "(I)I" } : Jvm.MethodName) prog_1_method_93_code (4 : Nat) (Option.some Jvm.ClassFile.FieldType.int)) ∈ lw_all := lw_g (lw_at lw_m6 51 rfl) rfl
theorem q1369 : (Jvm.Cond.classLink "SeanceStreet" (375 : Nat) "java/util/NoSuchElementException") ∈ lw_all := lw_g (lw_at lw_m6 52 rfl) rfl
theorem q1378 : (Jvm.Cond.methodLink "SeanceStreet" (377 : Nat) ({ cls := "java/util/NoSuchElementException", name := "<init>", desc := "()V" } : Jvm.MethodName)) ∈ lw_all := lw_g (lw_at lw_m6 61 rfl) rfl
theorem q2204 : (Jvm.Cond.castable "SeanceStreet" "java/lang/Object") ∈ lw_tbl := lw_at lw_m9 167 rfl
theorem in_X1 : ∀ w ∈ wsX10, w ∈ lw_all := lw_in wsX10 [354, 356, 358, 360, 362, 364, 366, 368, 370, 372, 374, 376, 378, 380, 382, 384, 386, 388, 390, 392, 394, 396, 398, 400, 402, 404, 406, 408, 410, 412] (by decide +kernel) (by decide +kernel)
