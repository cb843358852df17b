/-! LastAsked -/
set_option maxRecDepth 100000
def RX1 : String := "LastAsked"
def TX1 : u_T := fun k => match k with
  | 0 => ("LastAsked", "tape", "[B", true)
  | 1 => ("LastAsked", "taped", "I", false)
  | 2 => ("LastAsked", "scanner", "LLastAsked$Scanner;", true)
  | 3 => ("LastAsked", "city", "LLastAsked$City;", false)
  | 4 => ("LastAsked", "trouble", "I", false)
  | 5 => ("LastAsked", "fault", "I", false)
  | 6 => ("LastAsked", "where", "I", false)
  | 7 => ("LastAsked", "imageMany", "I", false)
  | 8 => ("LastAsked", "undoMany", "I", false)
  | 9 => ("LastAsked", "town", "LLastAsked$Town;", true)
  | 10 => ("LastAsked", "was", "LLastAsked$Town;", true)
  | 11 => ("LastAsked", "trial", "LLastAsked$Town;", true)
  | 12 => ("LastAsked", "night", "LLastAsked$Night;", true)
  | 13 => ("LastAsked", "plans", "LLastAsked$Asks;", true)
  | 14 => ("LastAsked", "undone", "[LLastAsked$Town;", true)
  | 15 => ("LastAsked", "images", "[LLastAsked$Town;", true)
  | 16 => ("LastAsked", "often", "[I", true)
  | 17 => ("LastAsked", "firstRest", "I", false)
  | 18 => ("LastAsked", "next", "LLastAsked$Town;", true)
  | _ => ("LastAsked", "catAt", "I", false)
def tyX1 : Nat → FieldType := fun k => match k with
  | 0 => .array .byte
  | 1 => .int
  | 2 => .object "LastAsked$Scanner"
  | 3 => .object "LastAsked$City"
  | 4 => .int
  | 5 => .int
  | 6 => .int
  | 7 => .int
  | 8 => .int
  | 9 => .object "LastAsked$Town"
  | 10 => .object "LastAsked$Town"
  | 11 => .object "LastAsked$Town"
  | 12 => .object "LastAsked$Night"
  | 13 => .object "LastAsked$Asks"
  | 14 => .array (.object "LastAsked$Town")
  | 15 => .array (.object "LastAsked$Town")
  | 16 => .array .int
  | 17 => .int
  | 18 => .object "LastAsked$Town"
  | _ => .int
abbrev wsX10 : List Cond := u_ws RX1 TX1 20
set_option maxRecDepth 100000 in
theorem nmX1 : ∀ a, a < 20 → ∀ b, b < 20 → a ≠ b → (TX1 a).2.1 ≠ (TX1 b).2.1 := by decide +kernel
set_option maxRecDepth 100000 in
theorem tyX1_ok : ∀ k, k < 20 → parseFieldDescriptor (TX1 k).2.2.1 = some (tyX1 k) := by decide +kernel
abbrev cX1_init : ByteArray := prog_1_method_6_code
def yX1_init : MethodName := ⟨RX1, "<init>", "()V"⟩
def dkwX1_init_7 : List UInt8 := [162, 0, 22, 42, 180, 0, 63, 27, 187, 0, 30, 89, 183, 0, 32, 83, 132, 1, 1, 167, 255, 235, 177]
abbrev dktX1_init_7 : List UInt8 := dkwX1_init_7 ++ []
def dkwX1_init_6 : List UInt8 := [42, 180, 0, 59, 27, 187, 0, 30, 89, 183, 0, 32, 83, 132, 1, 1, 167, 255, 234, 3, 60, 27, 6]
abbrev dktX1_init_6 : List UInt8 := dkwX1_init_6 ++ dktX1_init_7
def dkwX1_init_5 : List UInt8 := [188, 10, 181, 0, 66, 42, 187, 0, 30, 89, 183, 0, 32, 181, 0, 70, 3, 60, 27, 16, 16, 162, 0, 22]
abbrev dktX1_init_5 : List UInt8 := dkwX1_init_5 ++ dktX1_init_6
def dkwX1_init_4 : List UInt8 := [181, 0, 55, 42, 16, 16, 189, 0, 30, 181, 0, 59, 42, 6, 189, 0, 30, 181, 0, 63, 42, 16, 7]
abbrev dktX1_init_4 : List UInt8 := dkwX1_init_4 ++ dktX1_init_5
def dkwX1_init_3 : List UInt8 := [187, 0, 43, 89, 183, 0, 45, 181, 0, 46, 42, 187, 0, 50, 89, 42, 180, 0, 46, 183, 0, 52]
abbrev dktX1_init_3 : List UInt8 := dkwX1_init_3 ++ dktX1_init_4
def dkwX1_init_2 : List UInt8 := [187, 0, 30, 89, 183, 0, 32, 181, 0, 37, 42, 187, 0, 30, 89, 183, 0, 32, 181, 0, 40, 42]
abbrev dktX1_init_2 : List UInt8 := dkwX1_init_2 ++ dktX1_init_3
def dkwX1_init_1 : List UInt8 := [183, 0, 19, 181, 0, 22, 42, 2, 181, 0, 26, 42, 187, 0, 30, 89, 183, 0, 32, 181, 0, 33, 42]
abbrev dktX1_init_1 : List UInt8 := dkwX1_init_1 ++ dktX1_init_2
def dkwX1_init_0 : List UInt8 := [42, 183, 0, 7, 42, 17, 3, 132, 188, 8, 181, 0, 13, 42, 187, 0, 17, 89, 42, 180, 0, 13]
abbrev dktX1_init_0 : List UInt8 := dkwX1_init_0 ++ dktX1_init_1
theorem dksX1_init_0 : cX1_init.data.toList.drop 0 = dktX1_init_0 := by decide +kernel
theorem dksX1_init_1 : cX1_init.data.toList.drop 22 = dktX1_init_1 := dk_seg dksX1_init_0 22 rfl rfl
theorem dksX1_init_2 : cX1_init.data.toList.drop 45 = dktX1_init_2 := dk_seg dksX1_init_1 23 rfl rfl
theorem dksX1_init_3 : cX1_init.data.toList.drop 67 = dktX1_init_3 := dk_seg dksX1_init_2 22 rfl rfl
theorem dksX1_init_4 : cX1_init.data.toList.drop 89 = dktX1_init_4 := dk_seg dksX1_init_3 22 rfl rfl
theorem dksX1_init_5 : cX1_init.data.toList.drop 112 = dktX1_init_5 := dk_seg dksX1_init_4 23 rfl rfl
theorem dksX1_init_6 : cX1_init.data.toList.drop 136 = dktX1_init_6 := dk_seg dksX1_init_5 24 rfl rfl
theorem dksX1_init_7 : cX1_init.data.toList.drop 159 = dktX1_init_7 := dk_seg dksX1_init_6 23 rfl rfl
theorem dX1_init_0 : decode cX1_init 0 = .ok (.aload_n 0, 1) := dk_42 (dk_at dksX1_init_0 0 rfl rfl)
theorem dX1_init_1 : decode cX1_init 1 = .ok (.invokespecial 7, 3) := dk_183 0 7 (dk_at dksX1_init_0 1 rfl rfl)
theorem dX1_init_4 : decode cX1_init 4 = .ok (.aload_n 0, 1) := dk_42 (dk_at dksX1_init_0 4 rfl rfl)
theorem dX1_init_5 : decode cX1_init 5 = .ok (.sipush 900, 3) := dk_17 3 132 (dk_at dksX1_init_0 5 rfl rfl)
theorem dX1_init_8 : decode cX1_init 8 = .ok (.newarray .byte, 2) := dk_188_8 (dk_at dksX1_init_0 8 rfl rfl)
theorem dX1_init_10 : decode cX1_init 10 = .ok (.putfield 13, 3) := dk_181 0 13 (dk_at dksX1_init_0 10 rfl rfl)
theorem dX1_init_13 : decode cX1_init 13 = .ok (.aload_n 0, 1) := dk_42 (dk_at dksX1_init_0 13 rfl rfl)
theorem dX1_init_14 : decode cX1_init 14 = .ok (.new 17, 3) := dk_187 0 17 (dk_at dksX1_init_0 14 rfl rfl)
theorem dX1_init_17 : decode cX1_init 17 = .ok (.dup, 1) := dk_89 (dk_at dksX1_init_0 17 rfl rfl)
theorem dX1_init_18 : decode cX1_init 18 = .ok (.aload_n 0, 1) := dk_42 (dk_at dksX1_init_0 18 rfl rfl)
theorem dX1_init_19 : decode cX1_init 19 = .ok (.getfield 13, 3) := dk_180 0 13 (dk_at dksX1_init_0 19 rfl rfl)
theorem dX1_init_22 : decode cX1_init 22 = .ok (.invokespecial 19, 3) := dk_183 0 19 (dk_at dksX1_init_1 0 rfl rfl)
theorem dX1_init_25 : decode cX1_init 25 = .ok (.putfield 22, 3) := dk_181 0 22 (dk_at dksX1_init_1 3 rfl rfl)
theorem dX1_init_28 : decode cX1_init 28 = .ok (.aload_n 0, 1) := dk_42 (dk_at dksX1_init_1 6 rfl rfl)
theorem dX1_init_29 : decode cX1_init 29 = .ok (.iconst (-1), 1) := dk_2 (dk_at dksX1_init_1 7 rfl rfl)
theorem dX1_init_30 : decode cX1_init 30 = .ok (.putfield 26, 3) := dk_181 0 26 (dk_at dksX1_init_1 8 rfl rfl)
theorem dX1_init_33 : decode cX1_init 33 = .ok (.aload_n 0, 1) := dk_42 (dk_at dksX1_init_1 11 rfl rfl)
theorem dX1_init_34 : decode cX1_init 34 = .ok (.new 30, 3) := dk_187 0 30 (dk_at dksX1_init_1 12 rfl rfl)
theorem dX1_init_37 : decode cX1_init 37 = .ok (.dup, 1) := dk_89 (dk_at dksX1_init_1 15 rfl rfl)
theorem dX1_init_38 : decode cX1_init 38 = .ok (.invokespecial 32, 3) := dk_183 0 32 (dk_at dksX1_init_1 16 rfl rfl)
theorem dX1_init_41 : decode cX1_init 41 = .ok (.putfield 33, 3) := dk_181 0 33 (dk_at dksX1_init_1 19 rfl rfl)
theorem dX1_init_44 : decode cX1_init 44 = .ok (.aload_n 0, 1) := dk_42 (dk_at dksX1_init_1 22 rfl rfl)
theorem dX1_init_45 : decode cX1_init 45 = .ok (.new 30, 3) := dk_187 0 30 (dk_at dksX1_init_2 0 rfl rfl)
theorem dX1_init_48 : decode cX1_init 48 = .ok (.dup, 1) := dk_89 (dk_at dksX1_init_2 3 rfl rfl)
theorem dX1_init_49 : decode cX1_init 49 = .ok (.invokespecial 32, 3) := dk_183 0 32 (dk_at dksX1_init_2 4 rfl rfl)
theorem dX1_init_52 : decode cX1_init 52 = .ok (.putfield 37, 3) := dk_181 0 37 (dk_at dksX1_init_2 7 rfl rfl)
theorem dX1_init_55 : decode cX1_init 55 = .ok (.aload_n 0, 1) := dk_42 (dk_at dksX1_init_2 10 rfl rfl)
theorem dX1_init_56 : decode cX1_init 56 = .ok (.new 30, 3) := dk_187 0 30 (dk_at dksX1_init_2 11 rfl rfl)
theorem dX1_init_59 : decode cX1_init 59 = .ok (.dup, 1) := dk_89 (dk_at dksX1_init_2 14 rfl rfl)
theorem dX1_init_60 : decode cX1_init 60 = .ok (.invokespecial 32, 3) := dk_183 0 32 (dk_at dksX1_init_2 15 rfl rfl)
theorem dX1_init_63 : decode cX1_init 63 = .ok (.putfield 40, 3) := dk_181 0 40 (dk_at dksX1_init_2 18 rfl rfl)
theorem dX1_init_66 : decode cX1_init 66 = .ok (.aload_n 0, 1) := dk_42 (dk_at dksX1_init_2 21 rfl rfl)
theorem dX1_init_67 : decode cX1_init 67 = .ok (.new 43, 3) := dk_187 0 43 (dk_at dksX1_init_3 0 rfl rfl)
theorem dX1_init_70 : decode cX1_init 70 = .ok (.dup, 1) := dk_89 (dk_at dksX1_init_3 3 rfl rfl)
theorem dX1_init_71 : decode cX1_init 71 = .ok (.invokespecial 45, 3) := dk_183 0 45 (dk_at dksX1_init_3 4 rfl rfl)
theorem dX1_init_74 : decode cX1_init 74 = .ok (.putfield 46, 3) := dk_181 0 46 (dk_at dksX1_init_3 7 rfl rfl)
theorem dX1_init_77 : decode cX1_init 77 = .ok (.aload_n 0, 1) := dk_42 (dk_at dksX1_init_3 10 rfl rfl)
theorem dX1_init_78 : decode cX1_init 78 = .ok (.new 50, 3) := dk_187 0 50 (dk_at dksX1_init_3 11 rfl rfl)
theorem dX1_init_81 : decode cX1_init 81 = .ok (.dup, 1) := dk_89 (dk_at dksX1_init_3 14 rfl rfl)
theorem dX1_init_82 : decode cX1_init 82 = .ok (.aload_n 0, 1) := dk_42 (dk_at dksX1_init_3 15 rfl rfl)
theorem dX1_init_83 : decode cX1_init 83 = .ok (.getfield 46, 3) := dk_180 0 46 (dk_at dksX1_init_3 16 rfl rfl)
theorem dX1_init_86 : decode cX1_init 86 = .ok (.invokespecial 52, 3) := dk_183 0 52 (dk_at dksX1_init_3 19 rfl rfl)
theorem dX1_init_89 : decode cX1_init 89 = .ok (.putfield 55, 3) := dk_181 0 55 (dk_at dksX1_init_4 0 rfl rfl)
theorem dX1_init_92 : decode cX1_init 92 = .ok (.aload_n 0, 1) := dk_42 (dk_at dksX1_init_4 3 rfl rfl)
theorem dX1_init_93 : decode cX1_init 93 = .ok (.bipush 16, 2) := dk_16 16 (dk_at dksX1_init_4 4 rfl rfl)
theorem dX1_init_95 : decode cX1_init 95 = .ok (.anewarray 30, 3) := dk_189 0 30 (dk_at dksX1_init_4 6 rfl rfl)
theorem dX1_init_98 : decode cX1_init 98 = .ok (.putfield 59, 3) := dk_181 0 59 (dk_at dksX1_init_4 9 rfl rfl)
theorem dX1_init_101 : decode cX1_init 101 = .ok (.aload_n 0, 1) := dk_42 (dk_at dksX1_init_4 12 rfl rfl)
theorem dX1_init_102 : decode cX1_init 102 = .ok (.iconst 3, 1) := dk_6 (dk_at dksX1_init_4 13 rfl rfl)
theorem dX1_init_103 : decode cX1_init 103 = .ok (.anewarray 30, 3) := dk_189 0 30 (dk_at dksX1_init_4 14 rfl rfl)
theorem dX1_init_106 : decode cX1_init 106 = .ok (.putfield 63, 3) := dk_181 0 63 (dk_at dksX1_init_4 17 rfl rfl)
theorem dX1_init_109 : decode cX1_init 109 = .ok (.aload_n 0, 1) := dk_42 (dk_at dksX1_init_4 20 rfl rfl)
theorem dX1_init_110 : decode cX1_init 110 = .ok (.bipush 7, 2) := dk_16 7 (dk_at dksX1_init_4 21 rfl rfl)
theorem dX1_init_112 : decode cX1_init 112 = .ok (.newarray .int, 2) := dk_188_10 (dk_at dksX1_init_5 0 rfl rfl)
theorem dX1_init_114 : decode cX1_init 114 = .ok (.putfield 66, 3) := dk_181 0 66 (dk_at dksX1_init_5 2 rfl rfl)
theorem dX1_init_117 : decode cX1_init 117 = .ok (.aload_n 0, 1) := dk_42 (dk_at dksX1_init_5 5 rfl rfl)
theorem dX1_init_118 : decode cX1_init 118 = .ok (.new 30, 3) := dk_187 0 30 (dk_at dksX1_init_5 6 rfl rfl)
theorem dX1_init_121 : decode cX1_init 121 = .ok (.dup, 1) := dk_89 (dk_at dksX1_init_5 9 rfl rfl)
theorem dX1_init_122 : decode cX1_init 122 = .ok (.invokespecial 32, 3) := dk_183 0 32 (dk_at dksX1_init_5 10 rfl rfl)
theorem dX1_init_125 : decode cX1_init 125 = .ok (.putfield 70, 3) := dk_181 0 70 (dk_at dksX1_init_5 13 rfl rfl)
theorem dX1_init_128 : decode cX1_init 128 = .ok (.iconst 0, 1) := dk_3 (dk_at dksX1_init_5 16 rfl rfl)
theorem dX1_init_129 : decode cX1_init 129 = .ok (.istore_n 1, 1) := dk_60 (dk_at dksX1_init_5 17 rfl rfl)
theorem dX1_init_130 : decode cX1_init 130 = .ok (.iload_n 1, 1) := dk_27 (dk_at dksX1_init_5 18 rfl rfl)
theorem dX1_init_131 : decode cX1_init 131 = .ok (.bipush 16, 2) := dk_16 16 (dk_at dksX1_init_5 19 rfl rfl)
theorem dX1_init_133 : decode cX1_init 133 = .ok (.if_icmp .ge 22, 3) := dk_162 0 22 (dk_at dksX1_init_5 21 rfl rfl)
theorem dX1_init_136 : decode cX1_init 136 = .ok (.aload_n 0, 1) := dk_42 (dk_at dksX1_init_6 0 rfl rfl)
theorem dX1_init_137 : decode cX1_init 137 = .ok (.getfield 59, 3) := dk_180 0 59 (dk_at dksX1_init_6 1 rfl rfl)
theorem dX1_init_140 : decode cX1_init 140 = .ok (.iload_n 1, 1) := dk_27 (dk_at dksX1_init_6 4 rfl rfl)
theorem dX1_init_141 : decode cX1_init 141 = .ok (.new 30, 3) := dk_187 0 30 (dk_at dksX1_init_6 5 rfl rfl)
theorem dX1_init_144 : decode cX1_init 144 = .ok (.dup, 1) := dk_89 (dk_at dksX1_init_6 8 rfl rfl)
theorem dX1_init_145 : decode cX1_init 145 = .ok (.invokespecial 32, 3) := dk_183 0 32 (dk_at dksX1_init_6 9 rfl rfl)
theorem dX1_init_148 : decode cX1_init 148 = .ok (.aastore, 1) := dk_83 (dk_at dksX1_init_6 12 rfl rfl)
theorem dX1_init_149 : decode cX1_init 149 = .ok (.iinc 1 1, 3) := dk_132 1 1 (dk_at dksX1_init_6 13 rfl rfl)
theorem dX1_init_152 : decode cX1_init 152 = .ok (.goto (-22), 3) := dk_167 255 234 (dk_at dksX1_init_6 16 rfl rfl)
theorem dX1_init_155 : decode cX1_init 155 = .ok (.iconst 0, 1) := dk_3 (dk_at dksX1_init_6 19 rfl rfl)
theorem dX1_init_156 : decode cX1_init 156 = .ok (.istore_n 1, 1) := dk_60 (dk_at dksX1_init_6 20 rfl rfl)
theorem dX1_init_157 : decode cX1_init 157 = .ok (.iload_n 1, 1) := dk_27 (dk_at dksX1_init_6 21 rfl rfl)
theorem dX1_init_158 : decode cX1_init 158 = .ok (.iconst 3, 1) := dk_6 (dk_at dksX1_init_6 22 rfl rfl)
theorem dX1_init_159 : decode cX1_init 159 = .ok (.if_icmp .ge 22, 3) := dk_162 0 22 (dk_at dksX1_init_7 0 rfl rfl)
theorem dX1_init_162 : decode cX1_init 162 = .ok (.aload_n 0, 1) := dk_42 (dk_at dksX1_init_7 3 rfl rfl)
theorem dX1_init_163 : decode cX1_init 163 = .ok (.getfield 63, 3) := dk_180 0 63 (dk_at dksX1_init_7 4 rfl rfl)
theorem dX1_init_166 : decode cX1_init 166 = .ok (.iload_n 1, 1) := dk_27 (dk_at dksX1_init_7 7 rfl rfl)
theorem dX1_init_167 : decode cX1_init 167 = .ok (.new 30, 3) := dk_187 0 30 (dk_at dksX1_init_7 8 rfl rfl)
theorem dX1_init_170 : decode cX1_init 170 = .ok (.dup, 1) := dk_89 (dk_at dksX1_init_7 11 rfl rfl)
theorem dX1_init_171 : decode cX1_init 171 = .ok (.invokespecial 32, 3) := dk_183 0 32 (dk_at dksX1_init_7 12 rfl rfl)
theorem dX1_init_174 : decode cX1_init 174 = .ok (.aastore, 1) := dk_83 (dk_at dksX1_init_7 15 rfl rfl)
theorem dX1_init_175 : decode cX1_init 175 = .ok (.iinc 1 1, 3) := dk_132 1 1 (dk_at dksX1_init_7 16 rfl rfl)
theorem dX1_init_178 : decode cX1_init 178 = .ok (.goto (-21), 3) := dk_167 255 235 (dk_at dksX1_init_7 19 rfl rfl)
theorem dX1_init_181 : decode cX1_init 181 = .ok (.return_, 1) := dk_177 (dk_at dksX1_init_7 22 rfl rfl)
abbrev cX1_feed : ByteArray := prog_1_method_10_code
def yX1_feed : MethodName := ⟨RX1, "feed", "(IIIII)I"⟩
def dkwX1_feed_2 : List UInt8 := [172]
abbrev dktX1_feed_2 : List UInt8 := dkwX1_feed_2 ++ []
def dkwX1_feed_1 : List UInt8 := [182, 0, 82, 42, 29, 182, 0, 82, 42, 21, 4, 182, 0, 82, 42, 21, 5, 182, 0, 82, 42, 180, 0, 79]
abbrev dktX1_feed_1 : List UInt8 := dkwX1_feed_1 ++ dktX1_feed_2
def dkwX1_feed_0 : List UInt8 := [42, 180, 0, 79, 16, 20, 96, 17, 3, 132, 164, 0, 5, 2, 172, 42, 27, 182, 0, 82, 42, 28]
abbrev dktX1_feed_0 : List UInt8 := dkwX1_feed_0 ++ dktX1_feed_1
theorem dksX1_feed_0 : cX1_feed.data.toList.drop 0 = dktX1_feed_0 := by decide +kernel
theorem dksX1_feed_1 : cX1_feed.data.toList.drop 22 = dktX1_feed_1 := dk_seg dksX1_feed_0 22 rfl rfl
theorem dksX1_feed_2 : cX1_feed.data.toList.drop 46 = dktX1_feed_2 := dk_seg dksX1_feed_1 24 rfl rfl
theorem dX1_feed_0 : decode cX1_feed 0 = .ok (.aload_n 0, 1) := dk_42 (dk_at dksX1_feed_0 0 rfl rfl)
theorem dX1_feed_1 : decode cX1_feed 1 = .ok (.getfield 79, 3) := dk_180 0 79 (dk_at dksX1_feed_0 1 rfl rfl)
theorem dX1_feed_4 : decode cX1_feed 4 = .ok (.bipush 20, 2) := dk_16 20 (dk_at dksX1_feed_0 4 rfl rfl)
theorem dX1_feed_6 : decode cX1_feed 6 = .ok (.iadd, 1) := dk_96 (dk_at dksX1_feed_0 6 rfl rfl)
theorem dX1_feed_7 : decode cX1_feed 7 = .ok (.sipush 900, 3) := dk_17 3 132 (dk_at dksX1_feed_0 7 rfl rfl)
theorem dX1_feed_10 : decode cX1_feed 10 = .ok (.if_icmp .le 5, 3) := dk_164 0 5 (dk_at dksX1_feed_0 10 rfl rfl)
theorem dX1_feed_13 : decode cX1_feed 13 = .ok (.iconst (-1), 1) := dk_2 (dk_at dksX1_feed_0 13 rfl rfl)
theorem dX1_feed_14 : decode cX1_feed 14 = .ok (.ireturn, 1) := dk_172 (dk_at dksX1_feed_0 14 rfl rfl)
theorem dX1_feed_15 : decode cX1_feed 15 = .ok (.aload_n 0, 1) := dk_42 (dk_at dksX1_feed_0 15 rfl rfl)
theorem dX1_feed_16 : decode cX1_feed 16 = .ok (.iload_n 1, 1) := dk_27 (dk_at dksX1_feed_0 16 rfl rfl)
theorem dX1_feed_17 : decode cX1_feed 17 = .ok (.invokevirtual 82, 3) := dk_182 0 82 (dk_at dksX1_feed_0 17 rfl rfl)
theorem dX1_feed_20 : decode cX1_feed 20 = .ok (.aload_n 0, 1) := dk_42 (dk_at dksX1_feed_0 20 rfl rfl)
theorem dX1_feed_21 : decode cX1_feed 21 = .ok (.iload_n 2, 1) := dk_28 (dk_at dksX1_feed_0 21 rfl rfl)
theorem dX1_feed_22 : decode cX1_feed 22 = .ok (.invokevirtual 82, 3) := dk_182 0 82 (dk_at dksX1_feed_1 0 rfl rfl)
theorem dX1_feed_25 : decode cX1_feed 25 = .ok (.aload_n 0, 1) := dk_42 (dk_at dksX1_feed_1 3 rfl rfl)
theorem dX1_feed_26 : decode cX1_feed 26 = .ok (.iload_n 3, 1) := dk_29 (dk_at dksX1_feed_1 4 rfl rfl)
theorem dX1_feed_27 : decode cX1_feed 27 = .ok (.invokevirtual 82, 3) := dk_182 0 82 (dk_at dksX1_feed_1 5 rfl rfl)
theorem dX1_feed_30 : decode cX1_feed 30 = .ok (.aload_n 0, 1) := dk_42 (dk_at dksX1_feed_1 8 rfl rfl)
theorem dX1_feed_31 : decode cX1_feed 31 = .ok (.iload 4, 2) := dk_21 4 (dk_at dksX1_feed_1 9 rfl rfl)
theorem dX1_feed_33 : decode cX1_feed 33 = .ok (.invokevirtual 82, 3) := dk_182 0 82 (dk_at dksX1_feed_1 11 rfl rfl)
theorem dX1_feed_36 : decode cX1_feed 36 = .ok (.aload_n 0, 1) := dk_42 (dk_at dksX1_feed_1 14 rfl rfl)
theorem dX1_feed_37 : decode cX1_feed 37 = .ok (.iload 5, 2) := dk_21 5 (dk_at dksX1_feed_1 15 rfl rfl)
theorem dX1_feed_39 : decode cX1_feed 39 = .ok (.invokevirtual 82, 3) := dk_182 0 82 (dk_at dksX1_feed_1 17 rfl rfl)
theorem dX1_feed_42 : decode cX1_feed 42 = .ok (.aload_n 0, 1) := dk_42 (dk_at dksX1_feed_1 20 rfl rfl)
theorem dX1_feed_43 : decode cX1_feed 43 = .ok (.getfield 79, 3) := dk_180 0 79 (dk_at dksX1_feed_1 21 rfl rfl)
theorem dX1_feed_46 : decode cX1_feed 46 = .ok (.ireturn, 1) := dk_172 (dk_at dksX1_feed_2 0 rfl rfl)
abbrev cX1_bytes : ByteArray := prog_1_method_11_code
def yX1_bytes : MethodName := ⟨RX1, "bytes", "(I)V"⟩
def dkwX1_bytes_1 : List UInt8 := [180, 0, 79, 4, 96, 181, 0, 79, 132, 2, 248, 167, 255, 226, 177]
abbrev dktX1_bytes_1 : List UInt8 := dkwX1_bytes_1 ++ []
def dkwX1_bytes_0 : List UInt8 := [16, 24, 61, 28, 155, 0, 32, 42, 180, 0, 13, 42, 180, 0, 79, 27, 28, 122, 145, 84, 42, 89]
abbrev dktX1_bytes_0 : List UInt8 := dkwX1_bytes_0 ++ dktX1_bytes_1
theorem dksX1_bytes_0 : cX1_bytes.data.toList.drop 0 = dktX1_bytes_0 := by decide +kernel
theorem dksX1_bytes_1 : cX1_bytes.data.toList.drop 22 = dktX1_bytes_1 := dk_seg dksX1_bytes_0 22 rfl rfl
theorem dX1_bytes_0 : decode cX1_bytes 0 = .ok (.bipush 24, 2) := dk_16 24 (dk_at dksX1_bytes_0 0 rfl rfl)
theorem dX1_bytes_2 : decode cX1_bytes 2 = .ok (.istore_n 2, 1) := dk_61 (dk_at dksX1_bytes_0 2 rfl rfl)
theorem dX1_bytes_3 : decode cX1_bytes 3 = .ok (.iload_n 2, 1) := dk_28 (dk_at dksX1_bytes_0 3 rfl rfl)
theorem dX1_bytes_4 : decode cX1_bytes 4 = .ok (.ifCond .lt 32, 3) := dk_155 0 32 (dk_at dksX1_bytes_0 4 rfl rfl)
theorem dX1_bytes_7 : decode cX1_bytes 7 = .ok (.aload_n 0, 1) := dk_42 (dk_at dksX1_bytes_0 7 rfl rfl)
theorem dX1_bytes_8 : decode cX1_bytes 8 = .ok (.getfield 13, 3) := dk_180 0 13 (dk_at dksX1_bytes_0 8 rfl rfl)
theorem dX1_bytes_11 : decode cX1_bytes 11 = .ok (.aload_n 0, 1) := dk_42 (dk_at dksX1_bytes_0 11 rfl rfl)
theorem dX1_bytes_12 : decode cX1_bytes 12 = .ok (.getfield 79, 3) := dk_180 0 79 (dk_at dksX1_bytes_0 12 rfl rfl)
theorem dX1_bytes_15 : decode cX1_bytes 15 = .ok (.iload_n 1, 1) := dk_27 (dk_at dksX1_bytes_0 15 rfl rfl)
theorem dX1_bytes_16 : decode cX1_bytes 16 = .ok (.iload_n 2, 1) := dk_28 (dk_at dksX1_bytes_0 16 rfl rfl)
theorem dX1_bytes_17 : decode cX1_bytes 17 = .ok (.ishr, 1) := dk_122 (dk_at dksX1_bytes_0 17 rfl rfl)
theorem dX1_bytes_18 : decode cX1_bytes 18 = .ok (.i2b, 1) := dk_145 (dk_at dksX1_bytes_0 18 rfl rfl)
theorem dX1_bytes_19 : decode cX1_bytes 19 = .ok (.bastore, 1) := dk_84 (dk_at dksX1_bytes_0 19 rfl rfl)
theorem dX1_bytes_20 : decode cX1_bytes 20 = .ok (.aload_n 0, 1) := dk_42 (dk_at dksX1_bytes_0 20 rfl rfl)
theorem dX1_bytes_21 : decode cX1_bytes 21 = .ok (.dup, 1) := dk_89 (dk_at dksX1_bytes_0 21 rfl rfl)
theorem dX1_bytes_22 : decode cX1_bytes 22 = .ok (.getfield 79, 3) := dk_180 0 79 (dk_at dksX1_bytes_1 0 rfl rfl)
theorem dX1_bytes_25 : decode cX1_bytes 25 = .ok (.iconst 1, 1) := dk_4 (dk_at dksX1_bytes_1 3 rfl rfl)
theorem dX1_bytes_26 : decode cX1_bytes 26 = .ok (.iadd, 1) := dk_96 (dk_at dksX1_bytes_1 4 rfl rfl)
theorem dX1_bytes_27 : decode cX1_bytes 27 = .ok (.putfield 79, 3) := dk_181 0 79 (dk_at dksX1_bytes_1 5 rfl rfl)
theorem dX1_bytes_30 : decode cX1_bytes 30 = .ok (.iinc 2 (-8), 3) := dk_132 2 248 (dk_at dksX1_bytes_1 8 rfl rfl)
theorem dX1_bytes_33 : decode cX1_bytes 33 = .ok (.goto (-30), 3) := dk_167 255 226 (dk_at dksX1_bytes_1 11 rfl rfl)
theorem dX1_bytes_36 : decode cX1_bytes 36 = .ok (.return_, 1) := dk_177 (dk_at dksX1_bytes_1 14 rfl rfl)
abbrev cX1_city : ByteArray := prog_1_method_12_code
def yX1_city : MethodName := ⟨RX1, "city", "(I)I"⟩
def dkwX1_city_4 : List UInt8 := [180, 0, 101, 180, 0, 121, 172]
abbrev dktX1_city_4 : List UInt8 := dkwX1_city_4 ++ []
def dkwX1_city_3 : List UInt8 := [180, 0, 33, 42, 180, 0, 101, 182, 0, 111, 87, 42, 3, 181, 0, 115, 42, 3, 181, 0, 118, 42]
abbrev dktX1_city_3 : List UInt8 := dkwX1_city_3 ++ dktX1_city_4
def dkwX1_city_2 : List UInt8 := [42, 44, 180, 0, 107, 181, 0, 94, 42, 44, 180, 0, 108, 181, 0, 26, 42, 7, 182, 0, 90, 172, 42]
abbrev dktX1_city_2 : List UInt8 := dkwX1_city_2 ++ dktX1_city_3
def dkwX1_city_1 : List UInt8 := [181, 0, 79, 42, 3, 181, 0, 94, 42, 42, 180, 0, 22, 27, 182, 0, 97, 181, 0, 101, 167, 0, 26, 77]
abbrev dktX1_city_1 : List UInt8 := dkwX1_city_1 ++ dktX1_city_2
def dkwX1_city_0 : List UInt8 := [42, 182, 0, 76, 27, 3, 42, 180, 0, 79, 184, 0, 86, 154, 0, 9, 42, 5, 182, 0, 90, 172, 42, 3]
abbrev dktX1_city_0 : List UInt8 := dkwX1_city_0 ++ dktX1_city_1
theorem dksX1_city_0 : cX1_city.data.toList.drop 0 = dktX1_city_0 := by decide +kernel
theorem dksX1_city_1 : cX1_city.data.toList.drop 24 = dktX1_city_1 := dk_seg dksX1_city_0 24 rfl rfl
theorem dksX1_city_2 : cX1_city.data.toList.drop 48 = dktX1_city_2 := dk_seg dksX1_city_1 24 rfl rfl
theorem dksX1_city_3 : cX1_city.data.toList.drop 71 = dktX1_city_3 := dk_seg dksX1_city_2 23 rfl rfl
theorem dksX1_city_4 : cX1_city.data.toList.drop 93 = dktX1_city_4 := dk_seg dksX1_city_3 22 rfl rfl
theorem dX1_city_0 : decode cX1_city 0 = .ok (.aload_n 0, 1) := dk_42 (dk_at dksX1_city_0 0 rfl rfl)
theorem dX1_city_1 : decode cX1_city 1 = .ok (.invokevirtual 76, 3) := dk_182 0 76 (dk_at dksX1_city_0 1 rfl rfl)
theorem dX1_city_4 : decode cX1_city 4 = .ok (.iload_n 1, 1) := dk_27 (dk_at dksX1_city_0 4 rfl rfl)
theorem dX1_city_5 : decode cX1_city 5 = .ok (.iconst 0, 1) := dk_3 (dk_at dksX1_city_0 5 rfl rfl)
theorem dX1_city_6 : decode cX1_city 6 = .ok (.aload_n 0, 1) := dk_42 (dk_at dksX1_city_0 6 rfl rfl)
theorem dX1_city_7 : decode cX1_city 7 = .ok (.getfield 79, 3) := dk_180 0 79 (dk_at dksX1_city_0 7 rfl rfl)
theorem dX1_city_10 : decode cX1_city 10 = .ok (.invokestatic 86, 3) := dk_184 0 86 (dk_at dksX1_city_0 10 rfl rfl)
theorem dX1_city_13 : decode cX1_city 13 = .ok (.ifCond .ne 9, 3) := dk_154 0 9 (dk_at dksX1_city_0 13 rfl rfl)
theorem dX1_city_16 : decode cX1_city 16 = .ok (.aload_n 0, 1) := dk_42 (dk_at dksX1_city_0 16 rfl rfl)
theorem dX1_city_17 : decode cX1_city 17 = .ok (.iconst 2, 1) := dk_5 (dk_at dksX1_city_0 17 rfl rfl)
theorem dX1_city_18 : decode cX1_city 18 = .ok (.invokevirtual 90, 3) := dk_182 0 90 (dk_at dksX1_city_0 18 rfl rfl)
theorem dX1_city_21 : decode cX1_city 21 = .ok (.ireturn, 1) := dk_172 (dk_at dksX1_city_0 21 rfl rfl)
theorem dX1_city_22 : decode cX1_city 22 = .ok (.aload_n 0, 1) := dk_42 (dk_at dksX1_city_0 22 rfl rfl)
theorem dX1_city_23 : decode cX1_city 23 = .ok (.iconst 0, 1) := dk_3 (dk_at dksX1_city_0 23 rfl rfl)
theorem dX1_city_24 : decode cX1_city 24 = .ok (.putfield 79, 3) := dk_181 0 79 (dk_at dksX1_city_1 0 rfl rfl)
theorem dX1_city_27 : decode cX1_city 27 = .ok (.aload_n 0, 1) := dk_42 (dk_at dksX1_city_1 3 rfl rfl)
theorem dX1_city_28 : decode cX1_city 28 = .ok (.iconst 0, 1) := dk_3 (dk_at dksX1_city_1 4 rfl rfl)
theorem dX1_city_29 : decode cX1_city 29 = .ok (.putfield 94, 3) := dk_181 0 94 (dk_at dksX1_city_1 5 rfl rfl)
theorem dX1_city_32 : decode cX1_city 32 = .ok (.aload_n 0, 1) := dk_42 (dk_at dksX1_city_1 8 rfl rfl)
theorem dX1_city_33 : decode cX1_city 33 = .ok (.aload_n 0, 1) := dk_42 (dk_at dksX1_city_1 9 rfl rfl)
theorem dX1_city_34 : decode cX1_city 34 = .ok (.getfield 22, 3) := dk_180 0 22 (dk_at dksX1_city_1 10 rfl rfl)
theorem dX1_city_37 : decode cX1_city 37 = .ok (.iload_n 1, 1) := dk_27 (dk_at dksX1_city_1 13 rfl rfl)
theorem dX1_city_38 : decode cX1_city 38 = .ok (.invokevirtual 97, 3) := dk_182 0 97 (dk_at dksX1_city_1 14 rfl rfl)
theorem dX1_city_41 : decode cX1_city 41 = .ok (.putfield 101, 3) := dk_181 0 101 (dk_at dksX1_city_1 17 rfl rfl)
theorem dX1_city_44 : decode cX1_city 44 = .ok (.goto 26, 3) := dk_167 0 26 (dk_at dksX1_city_1 20 rfl rfl)
theorem dX1_city_47 : decode cX1_city 47 = .ok (.astore_n 2, 1) := dk_77 (dk_at dksX1_city_1 23 rfl rfl)
theorem dX1_city_48 : decode cX1_city 48 = .ok (.aload_n 0, 1) := dk_42 (dk_at dksX1_city_2 0 rfl rfl)
theorem dX1_city_49 : decode cX1_city 49 = .ok (.aload_n 2, 1) := dk_44 (dk_at dksX1_city_2 1 rfl rfl)
theorem dX1_city_50 : decode cX1_city 50 = .ok (.getfield 107, 3) := dk_180 0 107 (dk_at dksX1_city_2 2 rfl rfl)
theorem dX1_city_53 : decode cX1_city 53 = .ok (.putfield 94, 3) := dk_181 0 94 (dk_at dksX1_city_2 5 rfl rfl)
theorem dX1_city_56 : decode cX1_city 56 = .ok (.aload_n 0, 1) := dk_42 (dk_at dksX1_city_2 8 rfl rfl)
theorem dX1_city_57 : decode cX1_city 57 = .ok (.aload_n 2, 1) := dk_44 (dk_at dksX1_city_2 9 rfl rfl)
theorem dX1_city_58 : decode cX1_city 58 = .ok (.getfield 108, 3) := dk_180 0 108 (dk_at dksX1_city_2 10 rfl rfl)
theorem dX1_city_61 : decode cX1_city 61 = .ok (.putfield 26, 3) := dk_181 0 26 (dk_at dksX1_city_2 13 rfl rfl)
theorem dX1_city_64 : decode cX1_city 64 = .ok (.aload_n 0, 1) := dk_42 (dk_at dksX1_city_2 16 rfl rfl)
theorem dX1_city_65 : decode cX1_city 65 = .ok (.iconst 4, 1) := dk_7 (dk_at dksX1_city_2 17 rfl rfl)
theorem dX1_city_66 : decode cX1_city 66 = .ok (.invokevirtual 90, 3) := dk_182 0 90 (dk_at dksX1_city_2 18 rfl rfl)
theorem dX1_city_69 : decode cX1_city 69 = .ok (.ireturn, 1) := dk_172 (dk_at dksX1_city_2 21 rfl rfl)
theorem dX1_city_70 : decode cX1_city 70 = .ok (.aload_n 0, 1) := dk_42 (dk_at dksX1_city_2 22 rfl rfl)
theorem dX1_city_71 : decode cX1_city 71 = .ok (.getfield 33, 3) := dk_180 0 33 (dk_at dksX1_city_3 0 rfl rfl)
theorem dX1_city_74 : decode cX1_city 74 = .ok (.aload_n 0, 1) := dk_42 (dk_at dksX1_city_3 3 rfl rfl)
theorem dX1_city_75 : decode cX1_city 75 = .ok (.getfield 101, 3) := dk_180 0 101 (dk_at dksX1_city_3 4 rfl rfl)
theorem dX1_city_78 : decode cX1_city 78 = .ok (.invokevirtual 111, 3) := dk_182 0 111 (dk_at dksX1_city_3 7 rfl rfl)
theorem dX1_city_81 : decode cX1_city 81 = .ok (.pop, 1) := dk_87 (dk_at dksX1_city_3 10 rfl rfl)
theorem dX1_city_82 : decode cX1_city 82 = .ok (.aload_n 0, 1) := dk_42 (dk_at dksX1_city_3 11 rfl rfl)
theorem dX1_city_83 : decode cX1_city 83 = .ok (.iconst 0, 1) := dk_3 (dk_at dksX1_city_3 12 rfl rfl)
theorem dX1_city_84 : decode cX1_city 84 = .ok (.putfield 115, 3) := dk_181 0 115 (dk_at dksX1_city_3 13 rfl rfl)
theorem dX1_city_87 : decode cX1_city 87 = .ok (.aload_n 0, 1) := dk_42 (dk_at dksX1_city_3 16 rfl rfl)
theorem dX1_city_88 : decode cX1_city 88 = .ok (.iconst 0, 1) := dk_3 (dk_at dksX1_city_3 17 rfl rfl)
theorem dX1_city_89 : decode cX1_city 89 = .ok (.putfield 118, 3) := dk_181 0 118 (dk_at dksX1_city_3 18 rfl rfl)
theorem dX1_city_92 : decode cX1_city 92 = .ok (.aload_n 0, 1) := dk_42 (dk_at dksX1_city_3 21 rfl rfl)
theorem dX1_city_93 : decode cX1_city 93 = .ok (.getfield 101, 3) := dk_180 0 101 (dk_at dksX1_city_4 0 rfl rfl)
theorem dX1_city_96 : decode cX1_city 96 = .ok (.getfield 121, 3) := dk_180 0 121 (dk_at dksX1_city_4 3 rfl rfl)
theorem dX1_city_99 : decode cX1_city 99 = .ok (.ireturn, 1) := dk_172 (dk_at dksX1_city_4 6 rfl rfl)
abbrev cX1_anew : ByteArray := prog_1_method_7_code
def yX1_anew : MethodName := ⟨RX1, "anew", "()V"⟩
def dkwX1_anew_0 : List UInt8 := [42, 3, 181, 0, 73, 42, 2, 181, 0, 26, 177]
abbrev dktX1_anew_0 : List UInt8 := dkwX1_anew_0 ++ []
theorem dksX1_anew_0 : cX1_anew.data.toList.drop 0 = dktX1_anew_0 := by decide +kernel
theorem dX1_anew_0 : decode cX1_anew 0 = .ok (.aload_n 0, 1) := dk_42 (dk_at dksX1_anew_0 0 rfl rfl)
theorem dX1_anew_1 : decode cX1_anew 1 = .ok (.iconst 0, 1) := dk_3 (dk_at dksX1_anew_0 1 rfl rfl)
theorem dX1_anew_2 : decode cX1_anew 2 = .ok (.putfield 73, 3) := dk_181 0 73 (dk_at dksX1_anew_0 2 rfl rfl)
theorem dX1_anew_5 : decode cX1_anew 5 = .ok (.aload_n 0, 1) := dk_42 (dk_at dksX1_anew_0 5 rfl rfl)
theorem dX1_anew_6 : decode cX1_anew 6 = .ok (.iconst (-1), 1) := dk_2 (dk_at dksX1_anew_0 6 rfl rfl)
theorem dX1_anew_7 : decode cX1_anew 7 = .ok (.putfield 26, 3) := dk_181 0 26 (dk_at dksX1_anew_0 7 rfl rfl)
theorem dX1_anew_10 : decode cX1_anew 10 = .ok (.return_, 1) := dk_177 (dk_at dksX1_anew_0 10 rfl rfl)
abbrev cX1_in : ByteArray := prog_1_method_1_code
def yX1_in : MethodName := ⟨RX1, "in", "(III)Z"⟩
def dkwX1_in_0 : List UInt8 := [26, 27, 161, 0, 12, 26, 28, 163, 0, 7, 4, 167, 0, 4, 3, 172]
abbrev dktX1_in_0 : List UInt8 := dkwX1_in_0 ++ []
theorem dksX1_in_0 : cX1_in.data.toList.drop 0 = dktX1_in_0 := by decide +kernel
theorem dX1_in_0 : decode cX1_in 0 = .ok (.iload_n 0, 1) := dk_26 (dk_at dksX1_in_0 0 rfl rfl)
theorem dX1_in_1 : decode cX1_in 1 = .ok (.iload_n 1, 1) := dk_27 (dk_at dksX1_in_0 1 rfl rfl)
theorem dX1_in_2 : decode cX1_in 2 = .ok (.if_icmp .lt 12, 3) := dk_161 0 12 (dk_at dksX1_in_0 2 rfl rfl)
theorem dX1_in_5 : decode cX1_in 5 = .ok (.iload_n 0, 1) := dk_26 (dk_at dksX1_in_0 5 rfl rfl)
theorem dX1_in_6 : decode cX1_in 6 = .ok (.iload_n 2, 1) := dk_28 (dk_at dksX1_in_0 6 rfl rfl)
theorem dX1_in_7 : decode cX1_in 7 = .ok (.if_icmp .gt 7, 3) := dk_163 0 7 (dk_at dksX1_in_0 7 rfl rfl)
theorem dX1_in_10 : decode cX1_in 10 = .ok (.iconst 1, 1) := dk_4 (dk_at dksX1_in_0 10 rfl rfl)
theorem dX1_in_11 : decode cX1_in 11 = .ok (.goto 4, 3) := dk_167 0 4 (dk_at dksX1_in_0 11 rfl rfl)
theorem dX1_in_14 : decode cX1_in 14 = .ok (.iconst 0, 1) := dk_3 (dk_at dksX1_in_0 14 rfl rfl)
theorem dX1_in_15 : decode cX1_in 15 = .ok (.ireturn, 1) := dk_172 (dk_at dksX1_in_0 15 rfl rfl)
abbrev cX1_no : ByteArray := prog_1_method_8_code
def yX1_no : MethodName := ⟨RX1, "no", "(I)I"⟩
def dkwX1_no_0 : List UInt8 := [42, 27, 181, 0, 73, 2, 172]
abbrev dktX1_no_0 : List UInt8 := dkwX1_no_0 ++ []
theorem dksX1_no_0 : cX1_no.data.toList.drop 0 = dktX1_no_0 := by decide +kernel
theorem dX1_no_0 : decode cX1_no 0 = .ok (.aload_n 0, 1) := dk_42 (dk_at dksX1_no_0 0 rfl rfl)
theorem dX1_no_1 : decode cX1_no 1 = .ok (.iload_n 1, 1) := dk_27 (dk_at dksX1_no_0 1 rfl rfl)
theorem dX1_no_2 : decode cX1_no 2 = .ok (.putfield 73, 3) := dk_181 0 73 (dk_at dksX1_no_0 2 rfl rfl)
theorem dX1_no_5 : decode cX1_no 5 = .ok (.iconst (-1), 1) := dk_2 (dk_at dksX1_no_0 5 rfl rfl)
theorem dX1_no_6 : decode cX1_no 6 = .ok (.ireturn, 1) := dk_172 (dk_at dksX1_no_0 6 rfl rfl)
abbrev cX1_has : ByteArray := prog_1_method_2_code
def yX1_has : MethodName := ⟨RX1, "has", "(II)Z"⟩
def dkwX1_has_0 : List UInt8 := [26, 27, 122, 4, 126, 4, 160, 0, 7, 4, 167, 0, 4, 3, 172]
abbrev dktX1_has_0 : List UInt8 := dkwX1_has_0 ++ []
theorem dksX1_has_0 : cX1_has.data.toList.drop 0 = dktX1_has_0 := by decide +kernel
theorem dX1_has_0 : decode cX1_has 0 = .ok (.iload_n 0, 1) := dk_26 (dk_at dksX1_has_0 0 rfl rfl)
theorem dX1_has_1 : decode cX1_has 1 = .ok (.iload_n 1, 1) := dk_27 (dk_at dksX1_has_0 1 rfl rfl)
theorem dX1_has_2 : decode cX1_has 2 = .ok (.ishr, 1) := dk_122 (dk_at dksX1_has_0 2 rfl rfl)
theorem dX1_has_3 : decode cX1_has 3 = .ok (.iconst 1, 1) := dk_4 (dk_at dksX1_has_0 3 rfl rfl)
theorem dX1_has_4 : decode cX1_has 4 = .ok (.iand, 1) := dk_126 (dk_at dksX1_has_0 4 rfl rfl)
theorem dX1_has_5 : decode cX1_has 5 = .ok (.iconst 1, 1) := dk_4 (dk_at dksX1_has_0 5 rfl rfl)
theorem dX1_has_6 : decode cX1_has 6 = .ok (.if_icmp .ne 7, 3) := dk_160 0 7 (dk_at dksX1_has_0 6 rfl rfl)
theorem dX1_has_9 : decode cX1_has 9 = .ok (.iconst 1, 1) := dk_4 (dk_at dksX1_has_0 9 rfl rfl)
theorem dX1_has_10 : decode cX1_has 10 = .ok (.goto 4, 3) := dk_167 0 4 (dk_at dksX1_has_0 10 rfl rfl)
theorem dX1_has_13 : decode cX1_has 13 = .ok (.iconst 0, 1) := dk_3 (dk_at dksX1_has_0 13 rfl rfl)
theorem dX1_has_14 : decode cX1_has 14 = .ok (.ireturn, 1) := dk_172 (dk_at dksX1_has_0 14 rfl rfl)
abbrev cX1_fault : ByteArray := prog_1_method_13_code
def yX1_fault : MethodName := ⟨RX1, "fault", "()I"⟩
theorem dX1_fault_0 : decode cX1_fault 0 = .ok (.aload_n 0, 1) := by decide +kernel
theorem dX1_fault_1 : decode cX1_fault 1 = .ok (.getfield 94, 3) := by decide +kernel
theorem dX1_fault_4 : decode cX1_fault 4 = .ok (.ireturn, 1) := by decide +kernel
abbrev cX1_where : ByteArray := prog_1_method_14_code
def yX1_where : MethodName := ⟨RX1, "where", "()I"⟩
def dkwX1_where_0 : List UInt8 := [42, 180, 0, 73, 7, 160, 0, 10, 42, 180, 0, 26, 167, 0, 4, 2, 172]
abbrev dktX1_where_0 : List UInt8 := dkwX1_where_0 ++ []
theorem dksX1_where_0 : cX1_where.data.toList.drop 0 = dktX1_where_0 := by decide +kernel
theorem dX1_where_0 : decode cX1_where 0 = .ok (.aload_n 0, 1) := dk_42 (dk_at dksX1_where_0 0 rfl rfl)
theorem dX1_where_1 : decode cX1_where 1 = .ok (.getfield 73, 3) := dk_180 0 73 (dk_at dksX1_where_0 1 rfl rfl)
theorem dX1_where_4 : decode cX1_where 4 = .ok (.iconst 4, 1) := dk_7 (dk_at dksX1_where_0 4 rfl rfl)
theorem dX1_where_5 : decode cX1_where 5 = .ok (.if_icmp .ne 10, 3) := dk_160 0 10 (dk_at dksX1_where_0 5 rfl rfl)
theorem dX1_where_8 : decode cX1_where 8 = .ok (.aload_n 0, 1) := dk_42 (dk_at dksX1_where_0 8 rfl rfl)
theorem dX1_where_9 : decode cX1_where 9 = .ok (.getfield 26, 3) := dk_180 0 26 (dk_at dksX1_where_0 9 rfl rfl)
theorem dX1_where_12 : decode cX1_where 12 = .ok (.goto 4, 3) := dk_167 0 4 (dk_at dksX1_where_0 12 rfl rfl)
theorem dX1_where_15 : decode cX1_where 15 = .ok (.iconst (-1), 1) := dk_2 (dk_at dksX1_where_0 15 rfl rfl)
theorem dX1_where_16 : decode cX1_where 16 = .ok (.ireturn, 1) := dk_172 (dk_at dksX1_where_0 16 rfl rfl)
abbrev cX1_person : ByteArray := prog_1_method_22_code
def yX1_person : MethodName := ⟨RX1, "person", "(II)I"⟩
def dkwX1_person_5 : List UInt8 := [42, 27, 182, 0, 165, 172, 42, 4, 182, 0, 90, 172]
abbrev dktX1_person_5 : List UInt8 := dkwX1_person_5 ++ []
def dkwX1_person_4 : List UInt8 := [167, 0, 4, 3, 172, 42, 180, 0, 101, 180, 0, 144, 27, 50, 180, 0, 159, 172, 42, 27, 182, 0, 162, 172]
abbrev dktX1_person_4 : List UInt8 := dkwX1_person_4 ++ dktX1_person_5
def dkwX1_person_3 : List UInt8 := [180, 0, 101, 180, 0, 144, 27, 50, 180, 0, 156, 172, 42, 180, 0, 33, 27, 182, 0, 130, 153, 0, 7, 4]
abbrev dktX1_person_3 : List UInt8 := dkwX1_person_3 ++ dktX1_person_4
def dkwX1_person_2 : List UInt8 := [42, 180, 0, 101, 180, 0, 144, 27, 50, 182, 0, 148, 172, 42, 180, 0, 33, 180, 0, 153, 27, 46, 172, 42]
abbrev dktX1_person_2 : List UInt8 := dkwX1_person_2 ++ dktX1_person_3
def dkwX1_person_1 : List UInt8 := [170, 0, 0, 0, 119, 0, 0, 0, 0, 0, 0, 0, 6, 0, 0, 0, 41, 0, 0, 0, 54, 0, 0, 0, 64, 0, 0, 0, 77, 0, 0, 0, 94, 0, 0, 0, 107, 0, 0, 0, 113]
abbrev dktX1_person_1 : List UInt8 := dkwX1_person_1 ++ dktX1_person_2
def dkwX1_person_0 : List UInt8 := [42, 182, 0, 76, 42, 27, 182, 0, 126, 154, 0, 9, 42, 4, 182, 0, 90, 172, 28]
abbrev dktX1_person_0 : List UInt8 := dkwX1_person_0 ++ dktX1_person_1
theorem dksX1_person_0 : cX1_person.data.toList.drop 0 = dktX1_person_0 := by decide +kernel
theorem dksX1_person_1 : cX1_person.data.toList.drop 19 = dktX1_person_1 := dk_seg dksX1_person_0 19 rfl rfl
theorem dksX1_person_2 : cX1_person.data.toList.drop 60 = dktX1_person_2 := dk_seg dksX1_person_1 41 rfl rfl
theorem dksX1_person_3 : cX1_person.data.toList.drop 84 = dktX1_person_3 := dk_seg dksX1_person_2 24 rfl rfl
theorem dksX1_person_4 : cX1_person.data.toList.drop 108 = dktX1_person_4 := dk_seg dksX1_person_3 24 rfl rfl
theorem dksX1_person_5 : cX1_person.data.toList.drop 132 = dktX1_person_5 := dk_seg dksX1_person_4 24 rfl rfl
theorem dX1_person_0 : decode cX1_person 0 = .ok (.aload_n 0, 1) := dk_42 (dk_at dksX1_person_0 0 rfl rfl)
theorem dX1_person_1 : decode cX1_person 1 = .ok (.invokevirtual 76, 3) := dk_182 0 76 (dk_at dksX1_person_0 1 rfl rfl)
theorem dX1_person_4 : decode cX1_person 4 = .ok (.aload_n 0, 1) := dk_42 (dk_at dksX1_person_0 4 rfl rfl)
theorem dX1_person_5 : decode cX1_person 5 = .ok (.iload_n 1, 1) := dk_27 (dk_at dksX1_person_0 5 rfl rfl)
theorem dX1_person_6 : decode cX1_person 6 = .ok (.invokevirtual 126, 3) := dk_182 0 126 (dk_at dksX1_person_0 6 rfl rfl)
theorem dX1_person_9 : decode cX1_person 9 = .ok (.ifCond .ne 9, 3) := dk_154 0 9 (dk_at dksX1_person_0 9 rfl rfl)
theorem dX1_person_12 : decode cX1_person 12 = .ok (.aload_n 0, 1) := dk_42 (dk_at dksX1_person_0 12 rfl rfl)
theorem dX1_person_13 : decode cX1_person 13 = .ok (.iconst 1, 1) := dk_4 (dk_at dksX1_person_0 13 rfl rfl)
theorem dX1_person_14 : decode cX1_person 14 = .ok (.invokevirtual 90, 3) := dk_182 0 90 (dk_at dksX1_person_0 14 rfl rfl)
theorem dX1_person_17 : decode cX1_person 17 = .ok (.ireturn, 1) := dk_172 (dk_at dksX1_person_0 17 rfl rfl)
theorem dX1_person_18 : decode cX1_person 18 = .ok (.iload_n 2, 1) := dk_28 (dk_at dksX1_person_0 18 rfl rfl)
theorem dX1_person_19 : decode cX1_person 19 = .ok (.tableswitch 119 0 6 #[41, 54, 64, 77, 94, 107, 113], 41) := by decide +kernel
theorem dX1_person_60 : decode cX1_person 60 = .ok (.aload_n 0, 1) := dk_42 (dk_at dksX1_person_2 0 rfl rfl)
theorem dX1_person_61 : decode cX1_person 61 = .ok (.getfield 101, 3) := dk_180 0 101 (dk_at dksX1_person_2 1 rfl rfl)
theorem dX1_person_64 : decode cX1_person 64 = .ok (.getfield 144, 3) := dk_180 0 144 (dk_at dksX1_person_2 4 rfl rfl)
theorem dX1_person_67 : decode cX1_person 67 = .ok (.iload_n 1, 1) := dk_27 (dk_at dksX1_person_2 7 rfl rfl)
theorem dX1_person_68 : decode cX1_person 68 = .ok (.aaload, 1) := dk_50 (dk_at dksX1_person_2 8 rfl rfl)
theorem dX1_person_69 : decode cX1_person 69 = .ok (.invokevirtual 148, 3) := dk_182 0 148 (dk_at dksX1_person_2 9 rfl rfl)
theorem dX1_person_72 : decode cX1_person 72 = .ok (.ireturn, 1) := dk_172 (dk_at dksX1_person_2 12 rfl rfl)
theorem dX1_person_73 : decode cX1_person 73 = .ok (.aload_n 0, 1) := dk_42 (dk_at dksX1_person_2 13 rfl rfl)
theorem dX1_person_74 : decode cX1_person 74 = .ok (.getfield 33, 3) := dk_180 0 33 (dk_at dksX1_person_2 14 rfl rfl)
theorem dX1_person_77 : decode cX1_person 77 = .ok (.getfield 153, 3) := dk_180 0 153 (dk_at dksX1_person_2 17 rfl rfl)
theorem dX1_person_80 : decode cX1_person 80 = .ok (.iload_n 1, 1) := dk_27 (dk_at dksX1_person_2 20 rfl rfl)
theorem dX1_person_81 : decode cX1_person 81 = .ok (.iaload, 1) := dk_46 (dk_at dksX1_person_2 21 rfl rfl)
theorem dX1_person_82 : decode cX1_person 82 = .ok (.ireturn, 1) := dk_172 (dk_at dksX1_person_2 22 rfl rfl)
theorem dX1_person_83 : decode cX1_person 83 = .ok (.aload_n 0, 1) := dk_42 (dk_at dksX1_person_2 23 rfl rfl)
theorem dX1_person_84 : decode cX1_person 84 = .ok (.getfield 101, 3) := dk_180 0 101 (dk_at dksX1_person_3 0 rfl rfl)
theorem dX1_person_87 : decode cX1_person 87 = .ok (.getfield 144, 3) := dk_180 0 144 (dk_at dksX1_person_3 3 rfl rfl)
theorem dX1_person_90 : decode cX1_person 90 = .ok (.iload_n 1, 1) := dk_27 (dk_at dksX1_person_3 6 rfl rfl)
theorem dX1_person_91 : decode cX1_person 91 = .ok (.aaload, 1) := dk_50 (dk_at dksX1_person_3 7 rfl rfl)
theorem dX1_person_92 : decode cX1_person 92 = .ok (.getfield 156, 3) := dk_180 0 156 (dk_at dksX1_person_3 8 rfl rfl)
theorem dX1_person_95 : decode cX1_person 95 = .ok (.ireturn, 1) := dk_172 (dk_at dksX1_person_3 11 rfl rfl)
theorem dX1_person_96 : decode cX1_person 96 = .ok (.aload_n 0, 1) := dk_42 (dk_at dksX1_person_3 12 rfl rfl)
theorem dX1_person_97 : decode cX1_person 97 = .ok (.getfield 33, 3) := dk_180 0 33 (dk_at dksX1_person_3 13 rfl rfl)
theorem dX1_person_100 : decode cX1_person 100 = .ok (.iload_n 1, 1) := dk_27 (dk_at dksX1_person_3 16 rfl rfl)
theorem dX1_person_101 : decode cX1_person 101 = .ok (.invokevirtual 130, 3) := dk_182 0 130 (dk_at dksX1_person_3 17 rfl rfl)
theorem dX1_person_104 : decode cX1_person 104 = .ok (.ifCond .eq 7, 3) := dk_153 0 7 (dk_at dksX1_person_3 20 rfl rfl)
theorem dX1_person_107 : decode cX1_person 107 = .ok (.iconst 1, 1) := dk_4 (dk_at dksX1_person_3 23 rfl rfl)
theorem dX1_person_108 : decode cX1_person 108 = .ok (.goto 4, 3) := dk_167 0 4 (dk_at dksX1_person_4 0 rfl rfl)
theorem dX1_person_111 : decode cX1_person 111 = .ok (.iconst 0, 1) := dk_3 (dk_at dksX1_person_4 3 rfl rfl)
theorem dX1_person_112 : decode cX1_person 112 = .ok (.ireturn, 1) := dk_172 (dk_at dksX1_person_4 4 rfl rfl)
theorem dX1_person_113 : decode cX1_person 113 = .ok (.aload_n 0, 1) := dk_42 (dk_at dksX1_person_4 5 rfl rfl)
theorem dX1_person_114 : decode cX1_person 114 = .ok (.getfield 101, 3) := dk_180 0 101 (dk_at dksX1_person_4 6 rfl rfl)
theorem dX1_person_117 : decode cX1_person 117 = .ok (.getfield 144, 3) := dk_180 0 144 (dk_at dksX1_person_4 9 rfl rfl)
theorem dX1_person_120 : decode cX1_person 120 = .ok (.iload_n 1, 1) := dk_27 (dk_at dksX1_person_4 12 rfl rfl)
theorem dX1_person_121 : decode cX1_person 121 = .ok (.aaload, 1) := dk_50 (dk_at dksX1_person_4 13 rfl rfl)
theorem dX1_person_122 : decode cX1_person 122 = .ok (.getfield 159, 3) := dk_180 0 159 (dk_at dksX1_person_4 14 rfl rfl)
theorem dX1_person_125 : decode cX1_person 125 = .ok (.ireturn, 1) := dk_172 (dk_at dksX1_person_4 17 rfl rfl)
theorem dX1_person_126 : decode cX1_person 126 = .ok (.aload_n 0, 1) := dk_42 (dk_at dksX1_person_4 18 rfl rfl)
theorem dX1_person_127 : decode cX1_person 127 = .ok (.iload_n 1, 1) := dk_27 (dk_at dksX1_person_4 19 rfl rfl)
theorem dX1_person_128 : decode cX1_person 128 = .ok (.invokevirtual 162, 3) := dk_182 0 162 (dk_at dksX1_person_4 20 rfl rfl)
theorem dX1_person_131 : decode cX1_person 131 = .ok (.ireturn, 1) := dk_172 (dk_at dksX1_person_4 23 rfl rfl)
theorem dX1_person_132 : decode cX1_person 132 = .ok (.aload_n 0, 1) := dk_42 (dk_at dksX1_person_5 0 rfl rfl)
theorem dX1_person_133 : decode cX1_person 133 = .ok (.iload_n 1, 1) := dk_27 (dk_at dksX1_person_5 1 rfl rfl)
theorem dX1_person_134 : decode cX1_person 134 = .ok (.invokevirtual 165, 3) := dk_182 0 165 (dk_at dksX1_person_5 2 rfl rfl)
theorem dX1_person_137 : decode cX1_person 137 = .ok (.ireturn, 1) := dk_172 (dk_at dksX1_person_5 5 rfl rfl)
theorem dX1_person_138 : decode cX1_person 138 = .ok (.aload_n 0, 1) := dk_42 (dk_at dksX1_person_5 6 rfl rfl)
theorem dX1_person_139 : decode cX1_person 139 = .ok (.iconst 1, 1) := dk_4 (dk_at dksX1_person_5 7 rfl rfl)
theorem dX1_person_140 : decode cX1_person 140 = .ok (.invokevirtual 90, 3) := dk_182 0 90 (dk_at dksX1_person_5 8 rfl rfl)
theorem dX1_person_143 : decode cX1_person 143 = .ok (.ireturn, 1) := dk_172 (dk_at dksX1_person_5 11 rfl rfl)
abbrev cX1_isPerson : ByteArray := prog_1_method_15_code
def yX1_isPerson : MethodName := ⟨RX1, "isPerson", "(I)Z"⟩
def dkwX1_isPerson_1 : List UInt8 := [4, 167, 0, 4, 3, 172]
abbrev dktX1_isPerson_1 : List UInt8 := dkwX1_isPerson_1 ++ []
def dkwX1_isPerson_0 : List UInt8 := [42, 180, 0, 101, 198, 0, 24, 27, 3, 42, 180, 0, 101, 180, 0, 121, 4, 100, 184, 0, 86, 153, 0, 7]
abbrev dktX1_isPerson_0 : List UInt8 := dkwX1_isPerson_0 ++ dktX1_isPerson_1
theorem dksX1_isPerson_0 : cX1_isPerson.data.toList.drop 0 = dktX1_isPerson_0 := by decide +kernel
theorem dksX1_isPerson_1 : cX1_isPerson.data.toList.drop 24 = dktX1_isPerson_1 := dk_seg dksX1_isPerson_0 24 rfl rfl
theorem dX1_isPerson_0 : decode cX1_isPerson 0 = .ok (.aload_n 0, 1) := dk_42 (dk_at dksX1_isPerson_0 0 rfl rfl)
theorem dX1_isPerson_1 : decode cX1_isPerson 1 = .ok (.getfield 101, 3) := dk_180 0 101 (dk_at dksX1_isPerson_0 1 rfl rfl)
theorem dX1_isPerson_4 : decode cX1_isPerson 4 = .ok (.ifnull 24, 3) := dk_198 0 24 (dk_at dksX1_isPerson_0 4 rfl rfl)
theorem dX1_isPerson_7 : decode cX1_isPerson 7 = .ok (.iload_n 1, 1) := dk_27 (dk_at dksX1_isPerson_0 7 rfl rfl)
theorem dX1_isPerson_8 : decode cX1_isPerson 8 = .ok (.iconst 0, 1) := dk_3 (dk_at dksX1_isPerson_0 8 rfl rfl)
theorem dX1_isPerson_9 : decode cX1_isPerson 9 = .ok (.aload_n 0, 1) := dk_42 (dk_at dksX1_isPerson_0 9 rfl rfl)
theorem dX1_isPerson_10 : decode cX1_isPerson 10 = .ok (.getfield 101, 3) := dk_180 0 101 (dk_at dksX1_isPerson_0 10 rfl rfl)
theorem dX1_isPerson_13 : decode cX1_isPerson 13 = .ok (.getfield 121, 3) := dk_180 0 121 (dk_at dksX1_isPerson_0 13 rfl rfl)
theorem dX1_isPerson_16 : decode cX1_isPerson 16 = .ok (.iconst 1, 1) := dk_4 (dk_at dksX1_isPerson_0 16 rfl rfl)
theorem dX1_isPerson_17 : decode cX1_isPerson 17 = .ok (.isub, 1) := dk_100 (dk_at dksX1_isPerson_0 17 rfl rfl)
theorem dX1_isPerson_18 : decode cX1_isPerson 18 = .ok (.invokestatic 86, 3) := dk_184 0 86 (dk_at dksX1_isPerson_0 18 rfl rfl)
theorem dX1_isPerson_21 : decode cX1_isPerson 21 = .ok (.ifCond .eq 7, 3) := dk_153 0 7 (dk_at dksX1_isPerson_0 21 rfl rfl)
theorem dX1_isPerson_24 : decode cX1_isPerson 24 = .ok (.iconst 1, 1) := dk_4 (dk_at dksX1_isPerson_1 0 rfl rfl)
theorem dX1_isPerson_25 : decode cX1_isPerson 25 = .ok (.goto 4, 3) := dk_167 0 4 (dk_at dksX1_isPerson_1 1 rfl rfl)
theorem dX1_isPerson_28 : decode cX1_isPerson 28 = .ok (.iconst 0, 1) := dk_3 (dk_at dksX1_isPerson_1 4 rfl rfl)
theorem dX1_isPerson_29 : decode cX1_isPerson 29 = .ok (.ireturn, 1) := dk_172 (dk_at dksX1_isPerson_1 5 rfl rfl)
abbrev cX1_askable : ByteArray := prog_1_method_20_code
def yX1_askable : MethodName := ⟨RX1, "askable", "(I)I"⟩
def dkwX1_askable_1 : List UInt8 := [182, 0, 140, 153, 0, 9, 4, 29, 120, 167, 0, 4, 3, 128, 61, 132, 3, 1, 167, 255, 220, 28, 172]
abbrev dktX1_askable_1 : List UInt8 := dkwX1_askable_1 ++ []
def dkwX1_askable_0 : List UInt8 := [3, 61, 3, 62, 29, 42, 180, 0, 101, 180, 0, 121, 162, 0, 31, 28, 42, 180, 0, 33, 27, 29]
abbrev dktX1_askable_0 : List UInt8 := dkwX1_askable_0 ++ dktX1_askable_1
theorem dksX1_askable_0 : cX1_askable.data.toList.drop 0 = dktX1_askable_0 := by decide +kernel
theorem dksX1_askable_1 : cX1_askable.data.toList.drop 22 = dktX1_askable_1 := dk_seg dksX1_askable_0 22 rfl rfl
theorem dX1_askable_0 : decode cX1_askable 0 = .ok (.iconst 0, 1) := dk_3 (dk_at dksX1_askable_0 0 rfl rfl)
theorem dX1_askable_1 : decode cX1_askable 1 = .ok (.istore_n 2, 1) := dk_61 (dk_at dksX1_askable_0 1 rfl rfl)
theorem dX1_askable_2 : decode cX1_askable 2 = .ok (.iconst 0, 1) := dk_3 (dk_at dksX1_askable_0 2 rfl rfl)
theorem dX1_askable_3 : decode cX1_askable 3 = .ok (.istore_n 3, 1) := dk_62 (dk_at dksX1_askable_0 3 rfl rfl)
theorem dX1_askable_4 : decode cX1_askable 4 = .ok (.iload_n 3, 1) := dk_29 (dk_at dksX1_askable_0 4 rfl rfl)
theorem dX1_askable_5 : decode cX1_askable 5 = .ok (.aload_n 0, 1) := dk_42 (dk_at dksX1_askable_0 5 rfl rfl)
theorem dX1_askable_6 : decode cX1_askable 6 = .ok (.getfield 101, 3) := dk_180 0 101 (dk_at dksX1_askable_0 6 rfl rfl)
theorem dX1_askable_9 : decode cX1_askable 9 = .ok (.getfield 121, 3) := dk_180 0 121 (dk_at dksX1_askable_0 9 rfl rfl)
theorem dX1_askable_12 : decode cX1_askable 12 = .ok (.if_icmp .ge 31, 3) := dk_162 0 31 (dk_at dksX1_askable_0 12 rfl rfl)
theorem dX1_askable_15 : decode cX1_askable 15 = .ok (.iload_n 2, 1) := dk_28 (dk_at dksX1_askable_0 15 rfl rfl)
theorem dX1_askable_16 : decode cX1_askable 16 = .ok (.aload_n 0, 1) := dk_42 (dk_at dksX1_askable_0 16 rfl rfl)
theorem dX1_askable_17 : decode cX1_askable 17 = .ok (.getfield 33, 3) := dk_180 0 33 (dk_at dksX1_askable_0 17 rfl rfl)
theorem dX1_askable_20 : decode cX1_askable 20 = .ok (.iload_n 1, 1) := dk_27 (dk_at dksX1_askable_0 20 rfl rfl)
theorem dX1_askable_21 : decode cX1_askable 21 = .ok (.iload_n 3, 1) := dk_29 (dk_at dksX1_askable_0 21 rfl rfl)
theorem dX1_askable_22 : decode cX1_askable 22 = .ok (.invokevirtual 140, 3) := dk_182 0 140 (dk_at dksX1_askable_1 0 rfl rfl)
theorem dX1_askable_25 : decode cX1_askable 25 = .ok (.ifCond .eq 9, 3) := dk_153 0 9 (dk_at dksX1_askable_1 3 rfl rfl)
theorem dX1_askable_28 : decode cX1_askable 28 = .ok (.iconst 1, 1) := dk_4 (dk_at dksX1_askable_1 6 rfl rfl)
theorem dX1_askable_29 : decode cX1_askable 29 = .ok (.iload_n 3, 1) := dk_29 (dk_at dksX1_askable_1 7 rfl rfl)
theorem dX1_askable_30 : decode cX1_askable 30 = .ok (.ishl, 1) := dk_120 (dk_at dksX1_askable_1 8 rfl rfl)
theorem dX1_askable_31 : decode cX1_askable 31 = .ok (.goto 4, 3) := dk_167 0 4 (dk_at dksX1_askable_1 9 rfl rfl)
theorem dX1_askable_34 : decode cX1_askable 34 = .ok (.iconst 0, 1) := dk_3 (dk_at dksX1_askable_1 12 rfl rfl)
theorem dX1_askable_35 : decode cX1_askable 35 = .ok (.ior, 1) := dk_128 (dk_at dksX1_askable_1 13 rfl rfl)
theorem dX1_askable_36 : decode cX1_askable 36 = .ok (.istore_n 2, 1) := dk_61 (dk_at dksX1_askable_1 14 rfl rfl)
theorem dX1_askable_37 : decode cX1_askable 37 = .ok (.iinc 3 1, 3) := dk_132 3 1 (dk_at dksX1_askable_1 15 rfl rfl)
theorem dX1_askable_40 : decode cX1_askable 40 = .ok (.goto (-36), 3) := dk_167 255 220 (dk_at dksX1_askable_1 18 rfl rfl)
theorem dX1_askable_43 : decode cX1_askable 43 = .ok (.iload_n 2, 1) := dk_28 (dk_at dksX1_askable_1 21 rfl rfl)
theorem dX1_askable_44 : decode cX1_askable 44 = .ok (.ireturn, 1) := dk_172 (dk_at dksX1_askable_1 22 rfl rfl)
abbrev cX1_askers : ByteArray := prog_1_method_21_code
def yX1_askers : MethodName := ⟨RX1, "askers", "(I)I"⟩
def dkwX1_askers_1 : List UInt8 := [182, 0, 140, 153, 0, 9, 4, 29, 120, 167, 0, 4, 3, 128, 61, 132, 3, 1, 167, 255, 220, 28, 172]
abbrev dktX1_askers_1 : List UInt8 := dkwX1_askers_1 ++ []
def dkwX1_askers_0 : List UInt8 := [3, 61, 3, 62, 29, 42, 180, 0, 101, 180, 0, 121, 162, 0, 31, 28, 42, 180, 0, 33, 29, 27]
abbrev dktX1_askers_0 : List UInt8 := dkwX1_askers_0 ++ dktX1_askers_1
theorem dksX1_askers_0 : cX1_askers.data.toList.drop 0 = dktX1_askers_0 := by decide +kernel
theorem dksX1_askers_1 : cX1_askers.data.toList.drop 22 = dktX1_askers_1 := dk_seg dksX1_askers_0 22 rfl rfl
theorem dX1_askers_0 : decode cX1_askers 0 = .ok (.iconst 0, 1) := dk_3 (dk_at dksX1_askers_0 0 rfl rfl)
theorem dX1_askers_1 : decode cX1_askers 1 = .ok (.istore_n 2, 1) := dk_61 (dk_at dksX1_askers_0 1 rfl rfl)
theorem dX1_askers_2 : decode cX1_askers 2 = .ok (.iconst 0, 1) := dk_3 (dk_at dksX1_askers_0 2 rfl rfl)
theorem dX1_askers_3 : decode cX1_askers 3 = .ok (.istore_n 3, 1) := dk_62 (dk_at dksX1_askers_0 3 rfl rfl)
theorem dX1_askers_4 : decode cX1_askers 4 = .ok (.iload_n 3, 1) := dk_29 (dk_at dksX1_askers_0 4 rfl rfl)
theorem dX1_askers_5 : decode cX1_askers 5 = .ok (.aload_n 0, 1) := dk_42 (dk_at dksX1_askers_0 5 rfl rfl)
theorem dX1_askers_6 : decode cX1_askers 6 = .ok (.getfield 101, 3) := dk_180 0 101 (dk_at dksX1_askers_0 6 rfl rfl)
theorem dX1_askers_9 : decode cX1_askers 9 = .ok (.getfield 121, 3) := dk_180 0 121 (dk_at dksX1_askers_0 9 rfl rfl)
theorem dX1_askers_12 : decode cX1_askers 12 = .ok (.if_icmp .ge 31, 3) := dk_162 0 31 (dk_at dksX1_askers_0 12 rfl rfl)
theorem dX1_askers_15 : decode cX1_askers 15 = .ok (.iload_n 2, 1) := dk_28 (dk_at dksX1_askers_0 15 rfl rfl)
theorem dX1_askers_16 : decode cX1_askers 16 = .ok (.aload_n 0, 1) := dk_42 (dk_at dksX1_askers_0 16 rfl rfl)
theorem dX1_askers_17 : decode cX1_askers 17 = .ok (.getfield 33, 3) := dk_180 0 33 (dk_at dksX1_askers_0 17 rfl rfl)
theorem dX1_askers_20 : decode cX1_askers 20 = .ok (.iload_n 3, 1) := dk_29 (dk_at dksX1_askers_0 20 rfl rfl)
theorem dX1_askers_21 : decode cX1_askers 21 = .ok (.iload_n 1, 1) := dk_27 (dk_at dksX1_askers_0 21 rfl rfl)
theorem dX1_askers_22 : decode cX1_askers 22 = .ok (.invokevirtual 140, 3) := dk_182 0 140 (dk_at dksX1_askers_1 0 rfl rfl)
theorem dX1_askers_25 : decode cX1_askers 25 = .ok (.ifCond .eq 9, 3) := dk_153 0 9 (dk_at dksX1_askers_1 3 rfl rfl)
theorem dX1_askers_28 : decode cX1_askers 28 = .ok (.iconst 1, 1) := dk_4 (dk_at dksX1_askers_1 6 rfl rfl)
theorem dX1_askers_29 : decode cX1_askers 29 = .ok (.iload_n 3, 1) := dk_29 (dk_at dksX1_askers_1 7 rfl rfl)
theorem dX1_askers_30 : decode cX1_askers 30 = .ok (.ishl, 1) := dk_120 (dk_at dksX1_askers_1 8 rfl rfl)
theorem dX1_askers_31 : decode cX1_askers 31 = .ok (.goto 4, 3) := dk_167 0 4 (dk_at dksX1_askers_1 9 rfl rfl)
theorem dX1_askers_34 : decode cX1_askers 34 = .ok (.iconst 0, 1) := dk_3 (dk_at dksX1_askers_1 12 rfl rfl)
theorem dX1_askers_35 : decode cX1_askers 35 = .ok (.ior, 1) := dk_128 (dk_at dksX1_askers_1 13 rfl rfl)
theorem dX1_askers_36 : decode cX1_askers 36 = .ok (.istore_n 2, 1) := dk_61 (dk_at dksX1_askers_1 14 rfl rfl)
theorem dX1_askers_37 : decode cX1_askers 37 = .ok (.iinc 3 1, 3) := dk_132 3 1 (dk_at dksX1_askers_1 15 rfl rfl)
theorem dX1_askers_40 : decode cX1_askers 40 = .ok (.goto (-36), 3) := dk_167 255 220 (dk_at dksX1_askers_1 18 rfl rfl)
theorem dX1_askers_43 : decode cX1_askers 43 = .ok (.iload_n 2, 1) := dk_28 (dk_at dksX1_askers_1 21 rfl rfl)
theorem dX1_askers_44 : decode cX1_askers 44 = .ok (.ireturn, 1) := dk_172 (dk_at dksX1_askers_1 22 rfl rfl)
abbrev cX1_register : ByteArray := prog_1_method_23_code
def yX1_register : MethodName := ⟨RX1, "register", "(II)I"⟩
def dkwX1_register_1 : List UInt8 := [167, 0, 8, 42, 4, 182, 0, 90, 172]
abbrev dktX1_register_1 : List UInt8 := dkwX1_register_1 ++ []
def dkwX1_register_0 : List UInt8 := [42, 182, 0, 76, 42, 27, 28, 182, 0, 168, 153, 0, 15, 42, 180, 0, 33, 27, 28, 182, 0, 171]
abbrev dktX1_register_0 : List UInt8 := dkwX1_register_0 ++ dktX1_register_1
theorem dksX1_register_0 : cX1_register.data.toList.drop 0 = dktX1_register_0 := by decide +kernel
theorem dksX1_register_1 : cX1_register.data.toList.drop 22 = dktX1_register_1 := dk_seg dksX1_register_0 22 rfl rfl
theorem dX1_register_0 : decode cX1_register 0 = .ok (.aload_n 0, 1) := dk_42 (dk_at dksX1_register_0 0 rfl rfl)
theorem dX1_register_1 : decode cX1_register 1 = .ok (.invokevirtual 76, 3) := dk_182 0 76 (dk_at dksX1_register_0 1 rfl rfl)
theorem dX1_register_4 : decode cX1_register 4 = .ok (.aload_n 0, 1) := dk_42 (dk_at dksX1_register_0 4 rfl rfl)
theorem dX1_register_5 : decode cX1_register 5 = .ok (.iload_n 1, 1) := dk_27 (dk_at dksX1_register_0 5 rfl rfl)
theorem dX1_register_6 : decode cX1_register 6 = .ok (.iload_n 2, 1) := dk_28 (dk_at dksX1_register_0 6 rfl rfl)
theorem dX1_register_7 : decode cX1_register 7 = .ok (.invokevirtual 168, 3) := dk_182 0 168 (dk_at dksX1_register_0 7 rfl rfl)
theorem dX1_register_10 : decode cX1_register 10 = .ok (.ifCond .eq 15, 3) := dk_153 0 15 (dk_at dksX1_register_0 10 rfl rfl)
theorem dX1_register_13 : decode cX1_register 13 = .ok (.aload_n 0, 1) := dk_42 (dk_at dksX1_register_0 13 rfl rfl)
theorem dX1_register_14 : decode cX1_register 14 = .ok (.getfield 33, 3) := dk_180 0 33 (dk_at dksX1_register_0 14 rfl rfl)
theorem dX1_register_17 : decode cX1_register 17 = .ok (.iload_n 1, 1) := dk_27 (dk_at dksX1_register_0 17 rfl rfl)
theorem dX1_register_18 : decode cX1_register 18 = .ok (.iload_n 2, 1) := dk_28 (dk_at dksX1_register_0 18 rfl rfl)
theorem dX1_register_19 : decode cX1_register 19 = .ok (.invokevirtual 171, 3) := dk_182 0 171 (dk_at dksX1_register_0 19 rfl rfl)
theorem dX1_register_22 : decode cX1_register 22 = .ok (.goto 8, 3) := dk_167 0 8 (dk_at dksX1_register_1 0 rfl rfl)
theorem dX1_register_25 : decode cX1_register 25 = .ok (.aload_n 0, 1) := dk_42 (dk_at dksX1_register_1 3 rfl rfl)
theorem dX1_register_26 : decode cX1_register 26 = .ok (.iconst 1, 1) := dk_4 (dk_at dksX1_register_1 4 rfl rfl)
theorem dX1_register_27 : decode cX1_register 27 = .ok (.invokevirtual 90, 3) := dk_182 0 90 (dk_at dksX1_register_1 5 rfl rfl)
theorem dX1_register_30 : decode cX1_register 30 = .ok (.ireturn, 1) := dk_172 (dk_at dksX1_register_1 8 rfl rfl)
abbrev cX1_areTwo : ByteArray := prog_1_method_16_code
def yX1_areTwo : MethodName := ⟨RX1, "areTwo", "(II)Z"⟩
def dkwX1_areTwo_1 : List UInt8 := [167, 0, 4, 3, 172]
abbrev dktX1_areTwo_1 : List UInt8 := dkwX1_areTwo_1 ++ []
def dkwX1_areTwo_0 : List UInt8 := [42, 27, 182, 0, 126, 153, 0, 20, 42, 28, 182, 0, 126, 153, 0, 12, 27, 28, 159, 0, 7, 4]
abbrev dktX1_areTwo_0 : List UInt8 := dkwX1_areTwo_0 ++ dktX1_areTwo_1
theorem dksX1_areTwo_0 : cX1_areTwo.data.toList.drop 0 = dktX1_areTwo_0 := by decide +kernel
theorem dksX1_areTwo_1 : cX1_areTwo.data.toList.drop 22 = dktX1_areTwo_1 := dk_seg dksX1_areTwo_0 22 rfl rfl
theorem dX1_areTwo_0 : decode cX1_areTwo 0 = .ok (.aload_n 0, 1) := dk_42 (dk_at dksX1_areTwo_0 0 rfl rfl)
theorem dX1_areTwo_1 : decode cX1_areTwo 1 = .ok (.iload_n 1, 1) := dk_27 (dk_at dksX1_areTwo_0 1 rfl rfl)
theorem dX1_areTwo_2 : decode cX1_areTwo 2 = .ok (.invokevirtual 126, 3) := dk_182 0 126 (dk_at dksX1_areTwo_0 2 rfl rfl)
theorem dX1_areTwo_5 : decode cX1_areTwo 5 = .ok (.ifCond .eq 20, 3) := dk_153 0 20 (dk_at dksX1_areTwo_0 5 rfl rfl)
theorem dX1_areTwo_8 : decode cX1_areTwo 8 = .ok (.aload_n 0, 1) := dk_42 (dk_at dksX1_areTwo_0 8 rfl rfl)
theorem dX1_areTwo_9 : decode cX1_areTwo 9 = .ok (.iload_n 2, 1) := dk_28 (dk_at dksX1_areTwo_0 9 rfl rfl)
theorem dX1_areTwo_10 : decode cX1_areTwo 10 = .ok (.invokevirtual 126, 3) := dk_182 0 126 (dk_at dksX1_areTwo_0 10 rfl rfl)
theorem dX1_areTwo_13 : decode cX1_areTwo 13 = .ok (.ifCond .eq 12, 3) := dk_153 0 12 (dk_at dksX1_areTwo_0 13 rfl rfl)
theorem dX1_areTwo_16 : decode cX1_areTwo 16 = .ok (.iload_n 1, 1) := dk_27 (dk_at dksX1_areTwo_0 16 rfl rfl)
theorem dX1_areTwo_17 : decode cX1_areTwo 17 = .ok (.iload_n 2, 1) := dk_28 (dk_at dksX1_areTwo_0 17 rfl rfl)
theorem dX1_areTwo_18 : decode cX1_areTwo 18 = .ok (.if_icmp .eq 7, 3) := dk_159 0 7 (dk_at dksX1_areTwo_0 18 rfl rfl)
theorem dX1_areTwo_21 : decode cX1_areTwo 21 = .ok (.iconst 1, 1) := dk_4 (dk_at dksX1_areTwo_0 21 rfl rfl)
theorem dX1_areTwo_22 : decode cX1_areTwo 22 = .ok (.goto 4, 3) := dk_167 0 4 (dk_at dksX1_areTwo_1 0 rfl rfl)
theorem dX1_areTwo_25 : decode cX1_areTwo 25 = .ok (.iconst 0, 1) := dk_3 (dk_at dksX1_areTwo_1 3 rfl rfl)
theorem dX1_areTwo_26 : decode cX1_areTwo 26 = .ok (.ireturn, 1) := dk_172 (dk_at dksX1_areTwo_1 4 rfl rfl)
abbrev cX1_heir : ByteArray := prog_1_method_24_code
def yX1_heir : MethodName := ⟨RX1, "heir", "(I)I"⟩
def dkwX1_heir_1 : List UInt8 := [180, 0, 33, 27, 182, 0, 178, 172]
abbrev dktX1_heir_1 : List UInt8 := dkwX1_heir_1 ++ []
def dkwX1_heir_0 : List UInt8 := [42, 182, 0, 76, 42, 27, 182, 0, 175, 61, 28, 153, 0, 11, 42, 28, 182, 0, 90, 167, 0, 11, 42]
abbrev dktX1_heir_0 : List UInt8 := dkwX1_heir_0 ++ dktX1_heir_1
theorem dksX1_heir_0 : cX1_heir.data.toList.drop 0 = dktX1_heir_0 := by decide +kernel
theorem dksX1_heir_1 : cX1_heir.data.toList.drop 23 = dktX1_heir_1 := dk_seg dksX1_heir_0 23 rfl rfl
theorem dX1_heir_0 : decode cX1_heir 0 = .ok (.aload_n 0, 1) := dk_42 (dk_at dksX1_heir_0 0 rfl rfl)
theorem dX1_heir_1 : decode cX1_heir 1 = .ok (.invokevirtual 76, 3) := dk_182 0 76 (dk_at dksX1_heir_0 1 rfl rfl)
theorem dX1_heir_4 : decode cX1_heir 4 = .ok (.aload_n 0, 1) := dk_42 (dk_at dksX1_heir_0 4 rfl rfl)
theorem dX1_heir_5 : decode cX1_heir 5 = .ok (.iload_n 1, 1) := dk_27 (dk_at dksX1_heir_0 5 rfl rfl)
theorem dX1_heir_6 : decode cX1_heir 6 = .ok (.invokevirtual 175, 3) := dk_182 0 175 (dk_at dksX1_heir_0 6 rfl rfl)
theorem dX1_heir_9 : decode cX1_heir 9 = .ok (.istore_n 2, 1) := dk_61 (dk_at dksX1_heir_0 9 rfl rfl)
theorem dX1_heir_10 : decode cX1_heir 10 = .ok (.iload_n 2, 1) := dk_28 (dk_at dksX1_heir_0 10 rfl rfl)
theorem dX1_heir_11 : decode cX1_heir 11 = .ok (.ifCond .eq 11, 3) := dk_153 0 11 (dk_at dksX1_heir_0 11 rfl rfl)
theorem dX1_heir_14 : decode cX1_heir 14 = .ok (.aload_n 0, 1) := dk_42 (dk_at dksX1_heir_0 14 rfl rfl)
theorem dX1_heir_15 : decode cX1_heir 15 = .ok (.iload_n 2, 1) := dk_28 (dk_at dksX1_heir_0 15 rfl rfl)
theorem dX1_heir_16 : decode cX1_heir 16 = .ok (.invokevirtual 90, 3) := dk_182 0 90 (dk_at dksX1_heir_0 16 rfl rfl)
theorem dX1_heir_19 : decode cX1_heir 19 = .ok (.goto 11, 3) := dk_167 0 11 (dk_at dksX1_heir_0 19 rfl rfl)
theorem dX1_heir_22 : decode cX1_heir 22 = .ok (.aload_n 0, 1) := dk_42 (dk_at dksX1_heir_0 22 rfl rfl)
theorem dX1_heir_23 : decode cX1_heir 23 = .ok (.getfield 33, 3) := dk_180 0 33 (dk_at dksX1_heir_1 0 rfl rfl)
theorem dX1_heir_26 : decode cX1_heir 26 = .ok (.iload_n 1, 1) := dk_27 (dk_at dksX1_heir_1 3 rfl rfl)
theorem dX1_heir_27 : decode cX1_heir 27 = .ok (.invokevirtual 178, 3) := dk_182 0 178 (dk_at dksX1_heir_1 4 rfl rfl)
theorem dX1_heir_30 : decode cX1_heir 30 = .ok (.ireturn, 1) := dk_172 (dk_at dksX1_heir_1 7 rfl rfl)
abbrev cX1_livesWhy : ByteArray := prog_1_method_18_code
def yX1_livesWhy : MethodName := ⟨RX1, "livesWhy", "(I)I"⟩
def dkwX1_livesWhy_1 : List UInt8 := [167, 0, 4, 8, 172]
abbrev dktX1_livesWhy_1 : List UInt8 := dkwX1_livesWhy_1 ++ []
def dkwX1_livesWhy_0 : List UInt8 := [42, 27, 182, 0, 126, 154, 0, 7, 4, 167, 0, 19, 42, 180, 0, 33, 27, 182, 0, 130, 153, 0, 7, 3]
abbrev dktX1_livesWhy_0 : List UInt8 := dkwX1_livesWhy_0 ++ dktX1_livesWhy_1
theorem dksX1_livesWhy_0 : cX1_livesWhy.data.toList.drop 0 = dktX1_livesWhy_0 := by decide +kernel
theorem dksX1_livesWhy_1 : cX1_livesWhy.data.toList.drop 24 = dktX1_livesWhy_1 := dk_seg dksX1_livesWhy_0 24 rfl rfl
theorem dX1_livesWhy_0 : decode cX1_livesWhy 0 = .ok (.aload_n 0, 1) := dk_42 (dk_at dksX1_livesWhy_0 0 rfl rfl)
theorem dX1_livesWhy_1 : decode cX1_livesWhy 1 = .ok (.iload_n 1, 1) := dk_27 (dk_at dksX1_livesWhy_0 1 rfl rfl)
theorem dX1_livesWhy_2 : decode cX1_livesWhy 2 = .ok (.invokevirtual 126, 3) := dk_182 0 126 (dk_at dksX1_livesWhy_0 2 rfl rfl)
theorem dX1_livesWhy_5 : decode cX1_livesWhy 5 = .ok (.ifCond .ne 7, 3) := dk_154 0 7 (dk_at dksX1_livesWhy_0 5 rfl rfl)
theorem dX1_livesWhy_8 : decode cX1_livesWhy 8 = .ok (.iconst 1, 1) := dk_4 (dk_at dksX1_livesWhy_0 8 rfl rfl)
theorem dX1_livesWhy_9 : decode cX1_livesWhy 9 = .ok (.goto 19, 3) := dk_167 0 19 (dk_at dksX1_livesWhy_0 9 rfl rfl)
theorem dX1_livesWhy_12 : decode cX1_livesWhy 12 = .ok (.aload_n 0, 1) := dk_42 (dk_at dksX1_livesWhy_0 12 rfl rfl)
theorem dX1_livesWhy_13 : decode cX1_livesWhy 13 = .ok (.getfield 33, 3) := dk_180 0 33 (dk_at dksX1_livesWhy_0 13 rfl rfl)
theorem dX1_livesWhy_16 : decode cX1_livesWhy 16 = .ok (.iload_n 1, 1) := dk_27 (dk_at dksX1_livesWhy_0 16 rfl rfl)
theorem dX1_livesWhy_17 : decode cX1_livesWhy 17 = .ok (.invokevirtual 130, 3) := dk_182 0 130 (dk_at dksX1_livesWhy_0 17 rfl rfl)
theorem dX1_livesWhy_20 : decode cX1_livesWhy 20 = .ok (.ifCond .eq 7, 3) := dk_153 0 7 (dk_at dksX1_livesWhy_0 20 rfl rfl)
theorem dX1_livesWhy_23 : decode cX1_livesWhy 23 = .ok (.iconst 0, 1) := dk_3 (dk_at dksX1_livesWhy_0 23 rfl rfl)
theorem dX1_livesWhy_24 : decode cX1_livesWhy 24 = .ok (.goto 4, 3) := dk_167 0 4 (dk_at dksX1_livesWhy_1 0 rfl rfl)
theorem dX1_livesWhy_27 : decode cX1_livesWhy 27 = .ok (.iconst 5, 1) := dk_8 (dk_at dksX1_livesWhy_1 3 rfl rfl)
theorem dX1_livesWhy_28 : decode cX1_livesWhy 28 = .ok (.ireturn, 1) := dk_172 (dk_at dksX1_livesWhy_1 4 rfl rfl)
abbrev cX1_heirTo : ByteArray := prog_1_method_26_code
def yX1_heirTo : MethodName := ⟨RX1, "heirTo", "(I)I"⟩
def dkwX1_heirTo_1 : List UInt8 := [182, 0, 90, 172]
abbrev dktX1_heirTo_1 : List UInt8 := dkwX1_heirTo_1 ++ []
def dkwX1_heirTo_0 : List UInt8 := [42, 182, 0, 76, 42, 27, 182, 0, 126, 153, 0, 11, 42, 27, 182, 0, 181, 167, 0, 8, 42, 4]
abbrev dktX1_heirTo_0 : List UInt8 := dkwX1_heirTo_0 ++ dktX1_heirTo_1
theorem dksX1_heirTo_0 : cX1_heirTo.data.toList.drop 0 = dktX1_heirTo_0 := by decide +kernel
theorem dksX1_heirTo_1 : cX1_heirTo.data.toList.drop 22 = dktX1_heirTo_1 := dk_seg dksX1_heirTo_0 22 rfl rfl
theorem dX1_heirTo_0 : decode cX1_heirTo 0 = .ok (.aload_n 0, 1) := dk_42 (dk_at dksX1_heirTo_0 0 rfl rfl)
theorem dX1_heirTo_1 : decode cX1_heirTo 1 = .ok (.invokevirtual 76, 3) := dk_182 0 76 (dk_at dksX1_heirTo_0 1 rfl rfl)
theorem dX1_heirTo_4 : decode cX1_heirTo 4 = .ok (.aload_n 0, 1) := dk_42 (dk_at dksX1_heirTo_0 4 rfl rfl)
theorem dX1_heirTo_5 : decode cX1_heirTo 5 = .ok (.iload_n 1, 1) := dk_27 (dk_at dksX1_heirTo_0 5 rfl rfl)
theorem dX1_heirTo_6 : decode cX1_heirTo 6 = .ok (.invokevirtual 126, 3) := dk_182 0 126 (dk_at dksX1_heirTo_0 6 rfl rfl)
theorem dX1_heirTo_9 : decode cX1_heirTo 9 = .ok (.ifCond .eq 11, 3) := dk_153 0 11 (dk_at dksX1_heirTo_0 9 rfl rfl)
theorem dX1_heirTo_12 : decode cX1_heirTo 12 = .ok (.aload_n 0, 1) := dk_42 (dk_at dksX1_heirTo_0 12 rfl rfl)
theorem dX1_heirTo_13 : decode cX1_heirTo 13 = .ok (.iload_n 1, 1) := dk_27 (dk_at dksX1_heirTo_0 13 rfl rfl)
theorem dX1_heirTo_14 : decode cX1_heirTo 14 = .ok (.invokevirtual 181, 3) := dk_182 0 181 (dk_at dksX1_heirTo_0 14 rfl rfl)
theorem dX1_heirTo_17 : decode cX1_heirTo 17 = .ok (.goto 8, 3) := dk_167 0 8 (dk_at dksX1_heirTo_0 17 rfl rfl)
theorem dX1_heirTo_20 : decode cX1_heirTo 20 = .ok (.aload_n 0, 1) := dk_42 (dk_at dksX1_heirTo_0 20 rfl rfl)
theorem dX1_heirTo_21 : decode cX1_heirTo 21 = .ok (.iconst 1, 1) := dk_4 (dk_at dksX1_heirTo_0 21 rfl rfl)
theorem dX1_heirTo_22 : decode cX1_heirTo 22 = .ok (.invokevirtual 90, 3) := dk_182 0 90 (dk_at dksX1_heirTo_1 0 rfl rfl)
theorem dX1_heirTo_25 : decode cX1_heirTo 25 = .ok (.ireturn, 1) := dk_172 (dk_at dksX1_heirTo_1 3 rfl rfl)
abbrev cX1_heirTos : ByteArray := prog_1_method_25_code
def yX1_heirTos : MethodName := ⟨RX1, "heirTos", "(I)I"⟩
def dkwX1_heirTos_2 : List UInt8 := [132, 3, 1, 167, 255, 209, 28, 172]
abbrev dktX1_heirTos_2 : List UInt8 := dkwX1_heirTos_2 ++ []
def dkwX1_heirTos_1 : List UInt8 := [153, 0, 21, 42, 180, 0, 33, 29, 182, 0, 178, 27, 160, 0, 9, 4, 29, 120, 167, 0, 4, 3, 128, 61]
abbrev dktX1_heirTos_1 : List UInt8 := dkwX1_heirTos_1 ++ dktX1_heirTos_2
def dkwX1_heirTos_0 : List UInt8 := [3, 61, 3, 62, 29, 42, 180, 0, 101, 180, 0, 121, 162, 0, 42, 28, 42, 180, 0, 33, 29, 182, 0, 130]
abbrev dktX1_heirTos_0 : List UInt8 := dkwX1_heirTos_0 ++ dktX1_heirTos_1
theorem dksX1_heirTos_0 : cX1_heirTos.data.toList.drop 0 = dktX1_heirTos_0 := by decide +kernel
theorem dksX1_heirTos_1 : cX1_heirTos.data.toList.drop 24 = dktX1_heirTos_1 := dk_seg dksX1_heirTos_0 24 rfl rfl
theorem dksX1_heirTos_2 : cX1_heirTos.data.toList.drop 48 = dktX1_heirTos_2 := dk_seg dksX1_heirTos_1 24 rfl rfl
theorem dX1_heirTos_0 : decode cX1_heirTos 0 = .ok (.iconst 0, 1) := dk_3 (dk_at dksX1_heirTos_0 0 rfl rfl)
theorem dX1_heirTos_1 : decode cX1_heirTos 1 = .ok (.istore_n 2, 1) := dk_61 (dk_at dksX1_heirTos_0 1 rfl rfl)
theorem dX1_heirTos_2 : decode cX1_heirTos 2 = .ok (.iconst 0, 1) := dk_3 (dk_at dksX1_heirTos_0 2 rfl rfl)
theorem dX1_heirTos_3 : decode cX1_heirTos 3 = .ok (.istore_n 3, 1) := dk_62 (dk_at dksX1_heirTos_0 3 rfl rfl)
theorem dX1_heirTos_4 : decode cX1_heirTos 4 = .ok (.iload_n 3, 1) := dk_29 (dk_at dksX1_heirTos_0 4 rfl rfl)
theorem dX1_heirTos_5 : decode cX1_heirTos 5 = .ok (.aload_n 0, 1) := dk_42 (dk_at dksX1_heirTos_0 5 rfl rfl)
theorem dX1_heirTos_6 : decode cX1_heirTos 6 = .ok (.getfield 101, 3) := dk_180 0 101 (dk_at dksX1_heirTos_0 6 rfl rfl)
theorem dX1_heirTos_9 : decode cX1_heirTos 9 = .ok (.getfield 121, 3) := dk_180 0 121 (dk_at dksX1_heirTos_0 9 rfl rfl)
theorem dX1_heirTos_12 : decode cX1_heirTos 12 = .ok (.if_icmp .ge 42, 3) := dk_162 0 42 (dk_at dksX1_heirTos_0 12 rfl rfl)
theorem dX1_heirTos_15 : decode cX1_heirTos 15 = .ok (.iload_n 2, 1) := dk_28 (dk_at dksX1_heirTos_0 15 rfl rfl)
theorem dX1_heirTos_16 : decode cX1_heirTos 16 = .ok (.aload_n 0, 1) := dk_42 (dk_at dksX1_heirTos_0 16 rfl rfl)
theorem dX1_heirTos_17 : decode cX1_heirTos 17 = .ok (.getfield 33, 3) := dk_180 0 33 (dk_at dksX1_heirTos_0 17 rfl rfl)
theorem dX1_heirTos_20 : decode cX1_heirTos 20 = .ok (.iload_n 3, 1) := dk_29 (dk_at dksX1_heirTos_0 20 rfl rfl)
theorem dX1_heirTos_21 : decode cX1_heirTos 21 = .ok (.invokevirtual 130, 3) := dk_182 0 130 (dk_at dksX1_heirTos_0 21 rfl rfl)
theorem dX1_heirTos_24 : decode cX1_heirTos 24 = .ok (.ifCond .eq 21, 3) := dk_153 0 21 (dk_at dksX1_heirTos_1 0 rfl rfl)
theorem dX1_heirTos_27 : decode cX1_heirTos 27 = .ok (.aload_n 0, 1) := dk_42 (dk_at dksX1_heirTos_1 3 rfl rfl)
theorem dX1_heirTos_28 : decode cX1_heirTos 28 = .ok (.getfield 33, 3) := dk_180 0 33 (dk_at dksX1_heirTos_1 4 rfl rfl)
theorem dX1_heirTos_31 : decode cX1_heirTos 31 = .ok (.iload_n 3, 1) := dk_29 (dk_at dksX1_heirTos_1 7 rfl rfl)
theorem dX1_heirTos_32 : decode cX1_heirTos 32 = .ok (.invokevirtual 178, 3) := dk_182 0 178 (dk_at dksX1_heirTos_1 8 rfl rfl)
theorem dX1_heirTos_35 : decode cX1_heirTos 35 = .ok (.iload_n 1, 1) := dk_27 (dk_at dksX1_heirTos_1 11 rfl rfl)
theorem dX1_heirTos_36 : decode cX1_heirTos 36 = .ok (.if_icmp .ne 9, 3) := dk_160 0 9 (dk_at dksX1_heirTos_1 12 rfl rfl)
theorem dX1_heirTos_39 : decode cX1_heirTos 39 = .ok (.iconst 1, 1) := dk_4 (dk_at dksX1_heirTos_1 15 rfl rfl)
theorem dX1_heirTos_40 : decode cX1_heirTos 40 = .ok (.iload_n 3, 1) := dk_29 (dk_at dksX1_heirTos_1 16 rfl rfl)
theorem dX1_heirTos_41 : decode cX1_heirTos 41 = .ok (.ishl, 1) := dk_120 (dk_at dksX1_heirTos_1 17 rfl rfl)
theorem dX1_heirTos_42 : decode cX1_heirTos 42 = .ok (.goto 4, 3) := dk_167 0 4 (dk_at dksX1_heirTos_1 18 rfl rfl)
theorem dX1_heirTos_45 : decode cX1_heirTos 45 = .ok (.iconst 0, 1) := dk_3 (dk_at dksX1_heirTos_1 21 rfl rfl)
theorem dX1_heirTos_46 : decode cX1_heirTos 46 = .ok (.ior, 1) := dk_128 (dk_at dksX1_heirTos_1 22 rfl rfl)
theorem dX1_heirTos_47 : decode cX1_heirTos 47 = .ok (.istore_n 2, 1) := dk_61 (dk_at dksX1_heirTos_1 23 rfl rfl)
theorem dX1_heirTos_48 : decode cX1_heirTos 48 = .ok (.iinc 3 1, 3) := dk_132 3 1 (dk_at dksX1_heirTos_2 0 rfl rfl)
theorem dX1_heirTos_51 : decode cX1_heirTos 51 = .ok (.goto (-47), 3) := dk_167 255 209 (dk_at dksX1_heirTos_2 3 rfl rfl)
theorem dX1_heirTos_54 : decode cX1_heirTos 54 = .ok (.iload_n 2, 1) := dk_28 (dk_at dksX1_heirTos_2 6 rfl rfl)
theorem dX1_heirTos_55 : decode cX1_heirTos 55 = .ok (.ireturn, 1) := dk_172 (dk_at dksX1_heirTos_2 7 rfl rfl)
abbrev cX1_hopes : ByteArray := prog_1_method_27_code
def yX1_hopes : MethodName := ⟨RX1, "hopes", "(I)I"⟩
def dkwX1_hopes_1 : List UInt8 := [180, 0, 40, 42, 180, 0, 33, 42, 27, 182, 0, 181, 182, 0, 184, 180, 0, 153, 27, 46, 172]
abbrev dktX1_hopes_1 : List UInt8 := dkwX1_hopes_1 ++ []
def dkwX1_hopes_0 : List UInt8 := [42, 182, 0, 76, 42, 27, 182, 0, 175, 61, 28, 153, 0, 11, 42, 28, 182, 0, 90, 167, 0, 24, 42]
abbrev dktX1_hopes_0 : List UInt8 := dkwX1_hopes_0 ++ dktX1_hopes_1
theorem dksX1_hopes_0 : cX1_hopes.data.toList.drop 0 = dktX1_hopes_0 := by decide +kernel
theorem dksX1_hopes_1 : cX1_hopes.data.toList.drop 23 = dktX1_hopes_1 := dk_seg dksX1_hopes_0 23 rfl rfl
theorem dX1_hopes_0 : decode cX1_hopes 0 = .ok (.aload_n 0, 1) := dk_42 (dk_at dksX1_hopes_0 0 rfl rfl)
theorem dX1_hopes_1 : decode cX1_hopes 1 = .ok (.invokevirtual 76, 3) := dk_182 0 76 (dk_at dksX1_hopes_0 1 rfl rfl)
theorem dX1_hopes_4 : decode cX1_hopes 4 = .ok (.aload_n 0, 1) := dk_42 (dk_at dksX1_hopes_0 4 rfl rfl)
theorem dX1_hopes_5 : decode cX1_hopes 5 = .ok (.iload_n 1, 1) := dk_27 (dk_at dksX1_hopes_0 5 rfl rfl)
theorem dX1_hopes_6 : decode cX1_hopes 6 = .ok (.invokevirtual 175, 3) := dk_182 0 175 (dk_at dksX1_hopes_0 6 rfl rfl)
theorem dX1_hopes_9 : decode cX1_hopes 9 = .ok (.istore_n 2, 1) := dk_61 (dk_at dksX1_hopes_0 9 rfl rfl)
theorem dX1_hopes_10 : decode cX1_hopes 10 = .ok (.iload_n 2, 1) := dk_28 (dk_at dksX1_hopes_0 10 rfl rfl)
theorem dX1_hopes_11 : decode cX1_hopes 11 = .ok (.ifCond .eq 11, 3) := dk_153 0 11 (dk_at dksX1_hopes_0 11 rfl rfl)
theorem dX1_hopes_14 : decode cX1_hopes 14 = .ok (.aload_n 0, 1) := dk_42 (dk_at dksX1_hopes_0 14 rfl rfl)
theorem dX1_hopes_15 : decode cX1_hopes 15 = .ok (.iload_n 2, 1) := dk_28 (dk_at dksX1_hopes_0 15 rfl rfl)
theorem dX1_hopes_16 : decode cX1_hopes 16 = .ok (.invokevirtual 90, 3) := dk_182 0 90 (dk_at dksX1_hopes_0 16 rfl rfl)
theorem dX1_hopes_19 : decode cX1_hopes 19 = .ok (.goto 24, 3) := dk_167 0 24 (dk_at dksX1_hopes_0 19 rfl rfl)
theorem dX1_hopes_22 : decode cX1_hopes 22 = .ok (.aload_n 0, 1) := dk_42 (dk_at dksX1_hopes_0 22 rfl rfl)
theorem dX1_hopes_23 : decode cX1_hopes 23 = .ok (.getfield 40, 3) := dk_180 0 40 (dk_at dksX1_hopes_1 0 rfl rfl)
theorem dX1_hopes_26 : decode cX1_hopes 26 = .ok (.aload_n 0, 1) := dk_42 (dk_at dksX1_hopes_1 3 rfl rfl)
theorem dX1_hopes_27 : decode cX1_hopes 27 = .ok (.getfield 33, 3) := dk_180 0 33 (dk_at dksX1_hopes_1 4 rfl rfl)
theorem dX1_hopes_30 : decode cX1_hopes 30 = .ok (.aload_n 0, 1) := dk_42 (dk_at dksX1_hopes_1 7 rfl rfl)
theorem dX1_hopes_31 : decode cX1_hopes 31 = .ok (.iload_n 1, 1) := dk_27 (dk_at dksX1_hopes_1 8 rfl rfl)
theorem dX1_hopes_32 : decode cX1_hopes 32 = .ok (.invokevirtual 181, 3) := dk_182 0 181 (dk_at dksX1_hopes_1 9 rfl rfl)
theorem dX1_hopes_35 : decode cX1_hopes 35 = .ok (.invokevirtual 184, 3) := dk_182 0 184 (dk_at dksX1_hopes_1 12 rfl rfl)
theorem dX1_hopes_38 : decode cX1_hopes 38 = .ok (.getfield 153, 3) := dk_180 0 153 (dk_at dksX1_hopes_1 15 rfl rfl)
theorem dX1_hopes_41 : decode cX1_hopes 41 = .ok (.iload_n 1, 1) := dk_27 (dk_at dksX1_hopes_1 18 rfl rfl)
theorem dX1_hopes_42 : decode cX1_hopes 42 = .ok (.iaload, 1) := dk_46 (dk_at dksX1_hopes_1 19 rfl rfl)
theorem dX1_hopes_43 : decode cX1_hopes 43 = .ok (.ireturn, 1) := dk_172 (dk_at dksX1_hopes_1 20 rfl rfl)
abbrev cX1_cat : ByteArray := prog_1_method_28_code
def yX1_cat : MethodName := ⟨RX1, "cat", "()I"⟩
def dkwX1_cat_1 : List UInt8 := [180, 0, 187, 172]
abbrev dktX1_cat_1 : List UInt8 := dkwX1_cat_1 ++ []
def dkwX1_cat_0 : List UInt8 := [42, 182, 0, 76, 42, 180, 0, 101, 199, 0, 11, 42, 4, 182, 0, 90, 167, 0, 10, 42, 180, 0, 33]
abbrev dktX1_cat_0 : List UInt8 := dkwX1_cat_0 ++ dktX1_cat_1
theorem dksX1_cat_0 : cX1_cat.data.toList.drop 0 = dktX1_cat_0 := by decide +kernel
theorem dksX1_cat_1 : cX1_cat.data.toList.drop 23 = dktX1_cat_1 := dk_seg dksX1_cat_0 23 rfl rfl
theorem dX1_cat_0 : decode cX1_cat 0 = .ok (.aload_n 0, 1) := dk_42 (dk_at dksX1_cat_0 0 rfl rfl)
theorem dX1_cat_1 : decode cX1_cat 1 = .ok (.invokevirtual 76, 3) := dk_182 0 76 (dk_at dksX1_cat_0 1 rfl rfl)
theorem dX1_cat_4 : decode cX1_cat 4 = .ok (.aload_n 0, 1) := dk_42 (dk_at dksX1_cat_0 4 rfl rfl)
theorem dX1_cat_5 : decode cX1_cat 5 = .ok (.getfield 101, 3) := dk_180 0 101 (dk_at dksX1_cat_0 5 rfl rfl)
theorem dX1_cat_8 : decode cX1_cat 8 = .ok (.ifnonnull 11, 3) := dk_199 0 11 (dk_at dksX1_cat_0 8 rfl rfl)
theorem dX1_cat_11 : decode cX1_cat 11 = .ok (.aload_n 0, 1) := dk_42 (dk_at dksX1_cat_0 11 rfl rfl)
theorem dX1_cat_12 : decode cX1_cat 12 = .ok (.iconst 1, 1) := dk_4 (dk_at dksX1_cat_0 12 rfl rfl)
theorem dX1_cat_13 : decode cX1_cat 13 = .ok (.invokevirtual 90, 3) := dk_182 0 90 (dk_at dksX1_cat_0 13 rfl rfl)
theorem dX1_cat_16 : decode cX1_cat 16 = .ok (.goto 10, 3) := dk_167 0 10 (dk_at dksX1_cat_0 16 rfl rfl)
theorem dX1_cat_19 : decode cX1_cat 19 = .ok (.aload_n 0, 1) := dk_42 (dk_at dksX1_cat_0 19 rfl rfl)
theorem dX1_cat_20 : decode cX1_cat 20 = .ok (.getfield 33, 3) := dk_180 0 33 (dk_at dksX1_cat_0 20 rfl rfl)
theorem dX1_cat_23 : decode cX1_cat 23 = .ok (.getfield 187, 3) := dk_180 0 187 (dk_at dksX1_cat_1 0 rfl rfl)
theorem dX1_cat_26 : decode cX1_cat 26 = .ok (.ireturn, 1) := dk_172 (dk_at dksX1_cat_1 3 rfl rfl)
abbrev cX1_richest : ByteArray := prog_1_method_29_code
def yX1_richest : MethodName := ⟨RX1, "richest", "()I"⟩
def dkwX1_richest_3 : List UInt8 := [28, 60, 132, 2, 1, 167, 255, 202, 27, 172]
abbrev dktX1_richest_3 : List UInt8 := dkwX1_richest_3 ++ []
def dkwX1_richest_2 : List UInt8 := [159, 0, 24, 42, 180, 0, 33, 180, 0, 153, 28, 46, 42, 180, 0, 33, 180, 0, 153, 27, 46, 164, 0, 5]
abbrev dktX1_richest_2 : List UInt8 := dkwX1_richest_2 ++ dktX1_richest_3
def dkwX1_richest_1 : List UInt8 := [180, 0, 101, 180, 0, 121, 162, 0, 49, 42, 180, 0, 33, 28, 182, 0, 130, 153, 0, 32, 27, 16, 254]
abbrev dktX1_richest_1 : List UInt8 := dkwX1_richest_1 ++ dktX1_richest_2
def dkwX1_richest_0 : List UInt8 := [42, 182, 0, 76, 42, 180, 0, 101, 199, 0, 9, 42, 4, 182, 0, 90, 172, 16, 254, 60, 3, 61, 28, 42]
abbrev dktX1_richest_0 : List UInt8 := dkwX1_richest_0 ++ dktX1_richest_1
theorem dksX1_richest_0 : cX1_richest.data.toList.drop 0 = dktX1_richest_0 := by decide +kernel
theorem dksX1_richest_1 : cX1_richest.data.toList.drop 24 = dktX1_richest_1 := dk_seg dksX1_richest_0 24 rfl rfl
theorem dksX1_richest_2 : cX1_richest.data.toList.drop 47 = dktX1_richest_2 := dk_seg dksX1_richest_1 23 rfl rfl
theorem dksX1_richest_3 : cX1_richest.data.toList.drop 71 = dktX1_richest_3 := dk_seg dksX1_richest_2 24 rfl rfl
theorem dX1_richest_0 : decode cX1_richest 0 = .ok (.aload_n 0, 1) := dk_42 (dk_at dksX1_richest_0 0 rfl rfl)
theorem dX1_richest_1 : decode cX1_richest 1 = .ok (.invokevirtual 76, 3) := dk_182 0 76 (dk_at dksX1_richest_0 1 rfl rfl)
theorem dX1_richest_4 : decode cX1_richest 4 = .ok (.aload_n 0, 1) := dk_42 (dk_at dksX1_richest_0 4 rfl rfl)
theorem dX1_richest_5 : decode cX1_richest 5 = .ok (.getfield 101, 3) := dk_180 0 101 (dk_at dksX1_richest_0 5 rfl rfl)
theorem dX1_richest_8 : decode cX1_richest 8 = .ok (.ifnonnull 9, 3) := dk_199 0 9 (dk_at dksX1_richest_0 8 rfl rfl)
theorem dX1_richest_11 : decode cX1_richest 11 = .ok (.aload_n 0, 1) := dk_42 (dk_at dksX1_richest_0 11 rfl rfl)
theorem dX1_richest_12 : decode cX1_richest 12 = .ok (.iconst 1, 1) := dk_4 (dk_at dksX1_richest_0 12 rfl rfl)
theorem dX1_richest_13 : decode cX1_richest 13 = .ok (.invokevirtual 90, 3) := dk_182 0 90 (dk_at dksX1_richest_0 13 rfl rfl)
theorem dX1_richest_16 : decode cX1_richest 16 = .ok (.ireturn, 1) := dk_172 (dk_at dksX1_richest_0 16 rfl rfl)
theorem dX1_richest_17 : decode cX1_richest 17 = .ok (.bipush (-2), 2) := dk_16 254 (dk_at dksX1_richest_0 17 rfl rfl)
theorem dX1_richest_19 : decode cX1_richest 19 = .ok (.istore_n 1, 1) := dk_60 (dk_at dksX1_richest_0 19 rfl rfl)
theorem dX1_richest_20 : decode cX1_richest 20 = .ok (.iconst 0, 1) := dk_3 (dk_at dksX1_richest_0 20 rfl rfl)
theorem dX1_richest_21 : decode cX1_richest 21 = .ok (.istore_n 2, 1) := dk_61 (dk_at dksX1_richest_0 21 rfl rfl)
theorem dX1_richest_22 : decode cX1_richest 22 = .ok (.iload_n 2, 1) := dk_28 (dk_at dksX1_richest_0 22 rfl rfl)
theorem dX1_richest_23 : decode cX1_richest 23 = .ok (.aload_n 0, 1) := dk_42 (dk_at dksX1_richest_0 23 rfl rfl)
theorem dX1_richest_24 : decode cX1_richest 24 = .ok (.getfield 101, 3) := dk_180 0 101 (dk_at dksX1_richest_1 0 rfl rfl)
theorem dX1_richest_27 : decode cX1_richest 27 = .ok (.getfield 121, 3) := dk_180 0 121 (dk_at dksX1_richest_1 3 rfl rfl)
theorem dX1_richest_30 : decode cX1_richest 30 = .ok (.if_icmp .ge 49, 3) := dk_162 0 49 (dk_at dksX1_richest_1 6 rfl rfl)
theorem dX1_richest_33 : decode cX1_richest 33 = .ok (.aload_n 0, 1) := dk_42 (dk_at dksX1_richest_1 9 rfl rfl)
theorem dX1_richest_34 : decode cX1_richest 34 = .ok (.getfield 33, 3) := dk_180 0 33 (dk_at dksX1_richest_1 10 rfl rfl)
theorem dX1_richest_37 : decode cX1_richest 37 = .ok (.iload_n 2, 1) := dk_28 (dk_at dksX1_richest_1 13 rfl rfl)
theorem dX1_richest_38 : decode cX1_richest 38 = .ok (.invokevirtual 130, 3) := dk_182 0 130 (dk_at dksX1_richest_1 14 rfl rfl)
theorem dX1_richest_41 : decode cX1_richest 41 = .ok (.ifCond .eq 32, 3) := dk_153 0 32 (dk_at dksX1_richest_1 17 rfl rfl)
theorem dX1_richest_44 : decode cX1_richest 44 = .ok (.iload_n 1, 1) := dk_27 (dk_at dksX1_richest_1 20 rfl rfl)
theorem dX1_richest_45 : decode cX1_richest 45 = .ok (.bipush (-2), 2) := dk_16 254 (dk_at dksX1_richest_1 21 rfl rfl)
theorem dX1_richest_47 : decode cX1_richest 47 = .ok (.if_icmp .eq 24, 3) := dk_159 0 24 (dk_at dksX1_richest_2 0 rfl rfl)
theorem dX1_richest_50 : decode cX1_richest 50 = .ok (.aload_n 0, 1) := dk_42 (dk_at dksX1_richest_2 3 rfl rfl)
theorem dX1_richest_51 : decode cX1_richest 51 = .ok (.getfield 33, 3) := dk_180 0 33 (dk_at dksX1_richest_2 4 rfl rfl)
theorem dX1_richest_54 : decode cX1_richest 54 = .ok (.getfield 153, 3) := dk_180 0 153 (dk_at dksX1_richest_2 7 rfl rfl)
theorem dX1_richest_57 : decode cX1_richest 57 = .ok (.iload_n 2, 1) := dk_28 (dk_at dksX1_richest_2 10 rfl rfl)
theorem dX1_richest_58 : decode cX1_richest 58 = .ok (.iaload, 1) := dk_46 (dk_at dksX1_richest_2 11 rfl rfl)
theorem dX1_richest_59 : decode cX1_richest 59 = .ok (.aload_n 0, 1) := dk_42 (dk_at dksX1_richest_2 12 rfl rfl)
theorem dX1_richest_60 : decode cX1_richest 60 = .ok (.getfield 33, 3) := dk_180 0 33 (dk_at dksX1_richest_2 13 rfl rfl)
theorem dX1_richest_63 : decode cX1_richest 63 = .ok (.getfield 153, 3) := dk_180 0 153 (dk_at dksX1_richest_2 16 rfl rfl)
theorem dX1_richest_66 : decode cX1_richest 66 = .ok (.iload_n 1, 1) := dk_27 (dk_at dksX1_richest_2 19 rfl rfl)
theorem dX1_richest_67 : decode cX1_richest 67 = .ok (.iaload, 1) := dk_46 (dk_at dksX1_richest_2 20 rfl rfl)
theorem dX1_richest_68 : decode cX1_richest 68 = .ok (.if_icmp .le 5, 3) := dk_164 0 5 (dk_at dksX1_richest_2 21 rfl rfl)
theorem dX1_richest_71 : decode cX1_richest 71 = .ok (.iload_n 2, 1) := dk_28 (dk_at dksX1_richest_3 0 rfl rfl)
theorem dX1_richest_72 : decode cX1_richest 72 = .ok (.istore_n 1, 1) := dk_60 (dk_at dksX1_richest_3 1 rfl rfl)
theorem dX1_richest_73 : decode cX1_richest 73 = .ok (.iinc 2 1, 3) := dk_132 2 1 (dk_at dksX1_richest_3 2 rfl rfl)
theorem dX1_richest_76 : decode cX1_richest 76 = .ok (.goto (-54), 3) := dk_167 255 202 (dk_at dksX1_richest_3 5 rfl rfl)
theorem dX1_richest_79 : decode cX1_richest 79 = .ok (.iload_n 1, 1) := dk_27 (dk_at dksX1_richest_3 8 rfl rfl)
theorem dX1_richest_80 : decode cX1_richest 80 = .ok (.ireturn, 1) := dk_172 (dk_at dksX1_richest_3 9 rfl rfl)
abbrev cX1_goesTo : ByteArray := prog_1_method_30_code
def yX1_goesTo : MethodName := ⟨RX1, "goesTo", "(II)I"⟩
def dkwX1_goesTo_2 : List UInt8 := [42, 29, 182, 0, 90, 167, 0, 12, 42, 180, 0, 33, 27, 28, 182, 0, 199, 172]
abbrev dktX1_goesTo_2 : List UInt8 := dkwX1_goesTo_2 ++ []
def dkwX1_goesTo_1 : List UInt8 := [153, 0, 15, 28, 27, 184, 0, 193, 153, 0, 7, 4, 167, 0, 4, 3, 182, 0, 195, 62, 29, 153, 0, 11]
abbrev dktX1_goesTo_1 : List UInt8 := dkwX1_goesTo_1 ++ dktX1_goesTo_2
def dkwX1_goesTo_0 : List UInt8 := [42, 182, 0, 76, 42, 42, 27, 182, 0, 126, 42, 27, 182, 0, 126, 153, 0, 23, 42, 28, 182, 0, 190]
abbrev dktX1_goesTo_0 : List UInt8 := dkwX1_goesTo_0 ++ dktX1_goesTo_1
theorem dksX1_goesTo_0 : cX1_goesTo.data.toList.drop 0 = dktX1_goesTo_0 := by decide +kernel
theorem dksX1_goesTo_1 : cX1_goesTo.data.toList.drop 23 = dktX1_goesTo_1 := dk_seg dksX1_goesTo_0 23 rfl rfl
theorem dksX1_goesTo_2 : cX1_goesTo.data.toList.drop 47 = dktX1_goesTo_2 := dk_seg dksX1_goesTo_1 24 rfl rfl
theorem dX1_goesTo_0 : decode cX1_goesTo 0 = .ok (.aload_n 0, 1) := dk_42 (dk_at dksX1_goesTo_0 0 rfl rfl)
theorem dX1_goesTo_1 : decode cX1_goesTo 1 = .ok (.invokevirtual 76, 3) := dk_182 0 76 (dk_at dksX1_goesTo_0 1 rfl rfl)
theorem dX1_goesTo_4 : decode cX1_goesTo 4 = .ok (.aload_n 0, 1) := dk_42 (dk_at dksX1_goesTo_0 4 rfl rfl)
theorem dX1_goesTo_5 : decode cX1_goesTo 5 = .ok (.aload_n 0, 1) := dk_42 (dk_at dksX1_goesTo_0 5 rfl rfl)
theorem dX1_goesTo_6 : decode cX1_goesTo 6 = .ok (.iload_n 1, 1) := dk_27 (dk_at dksX1_goesTo_0 6 rfl rfl)
theorem dX1_goesTo_7 : decode cX1_goesTo 7 = .ok (.invokevirtual 126, 3) := dk_182 0 126 (dk_at dksX1_goesTo_0 7 rfl rfl)
theorem dX1_goesTo_10 : decode cX1_goesTo 10 = .ok (.aload_n 0, 1) := dk_42 (dk_at dksX1_goesTo_0 10 rfl rfl)
theorem dX1_goesTo_11 : decode cX1_goesTo 11 = .ok (.iload_n 1, 1) := dk_27 (dk_at dksX1_goesTo_0 11 rfl rfl)
theorem dX1_goesTo_12 : decode cX1_goesTo 12 = .ok (.invokevirtual 126, 3) := dk_182 0 126 (dk_at dksX1_goesTo_0 12 rfl rfl)
theorem dX1_goesTo_15 : decode cX1_goesTo 15 = .ok (.ifCond .eq 23, 3) := dk_153 0 23 (dk_at dksX1_goesTo_0 15 rfl rfl)
theorem dX1_goesTo_18 : decode cX1_goesTo 18 = .ok (.aload_n 0, 1) := dk_42 (dk_at dksX1_goesTo_0 18 rfl rfl)
theorem dX1_goesTo_19 : decode cX1_goesTo 19 = .ok (.iload_n 2, 1) := dk_28 (dk_at dksX1_goesTo_0 19 rfl rfl)
theorem dX1_goesTo_20 : decode cX1_goesTo 20 = .ok (.invokevirtual 190, 3) := dk_182 0 190 (dk_at dksX1_goesTo_0 20 rfl rfl)
theorem dX1_goesTo_23 : decode cX1_goesTo 23 = .ok (.ifCond .eq 15, 3) := dk_153 0 15 (dk_at dksX1_goesTo_1 0 rfl rfl)
theorem dX1_goesTo_26 : decode cX1_goesTo 26 = .ok (.iload_n 2, 1) := dk_28 (dk_at dksX1_goesTo_1 3 rfl rfl)
theorem dX1_goesTo_27 : decode cX1_goesTo 27 = .ok (.iload_n 1, 1) := dk_27 (dk_at dksX1_goesTo_1 4 rfl rfl)
theorem dX1_goesTo_28 : decode cX1_goesTo 28 = .ok (.invokestatic 193, 3) := dk_184 0 193 (dk_at dksX1_goesTo_1 5 rfl rfl)
theorem dX1_goesTo_31 : decode cX1_goesTo 31 = .ok (.ifCond .eq 7, 3) := dk_153 0 7 (dk_at dksX1_goesTo_1 8 rfl rfl)
theorem dX1_goesTo_34 : decode cX1_goesTo 34 = .ok (.iconst 1, 1) := dk_4 (dk_at dksX1_goesTo_1 11 rfl rfl)
theorem dX1_goesTo_35 : decode cX1_goesTo 35 = .ok (.goto 4, 3) := dk_167 0 4 (dk_at dksX1_goesTo_1 12 rfl rfl)
theorem dX1_goesTo_38 : decode cX1_goesTo 38 = .ok (.iconst 0, 1) := dk_3 (dk_at dksX1_goesTo_1 15 rfl rfl)
theorem dX1_goesTo_39 : decode cX1_goesTo 39 = .ok (.invokevirtual 195, 3) := dk_182 0 195 (dk_at dksX1_goesTo_1 16 rfl rfl)
theorem dX1_goesTo_42 : decode cX1_goesTo 42 = .ok (.istore_n 3, 1) := dk_62 (dk_at dksX1_goesTo_1 19 rfl rfl)
theorem dX1_goesTo_43 : decode cX1_goesTo 43 = .ok (.iload_n 3, 1) := dk_29 (dk_at dksX1_goesTo_1 20 rfl rfl)
theorem dX1_goesTo_44 : decode cX1_goesTo 44 = .ok (.ifCond .eq 11, 3) := dk_153 0 11 (dk_at dksX1_goesTo_1 21 rfl rfl)
theorem dX1_goesTo_47 : decode cX1_goesTo 47 = .ok (.aload_n 0, 1) := dk_42 (dk_at dksX1_goesTo_2 0 rfl rfl)
theorem dX1_goesTo_48 : decode cX1_goesTo 48 = .ok (.iload_n 3, 1) := dk_29 (dk_at dksX1_goesTo_2 1 rfl rfl)
theorem dX1_goesTo_49 : decode cX1_goesTo 49 = .ok (.invokevirtual 90, 3) := dk_182 0 90 (dk_at dksX1_goesTo_2 2 rfl rfl)
theorem dX1_goesTo_52 : decode cX1_goesTo 52 = .ok (.goto 12, 3) := dk_167 0 12 (dk_at dksX1_goesTo_2 5 rfl rfl)
theorem dX1_goesTo_55 : decode cX1_goesTo 55 = .ok (.aload_n 0, 1) := dk_42 (dk_at dksX1_goesTo_2 8 rfl rfl)
theorem dX1_goesTo_56 : decode cX1_goesTo 56 = .ok (.getfield 33, 3) := dk_180 0 33 (dk_at dksX1_goesTo_2 9 rfl rfl)
theorem dX1_goesTo_59 : decode cX1_goesTo 59 = .ok (.iload_n 1, 1) := dk_27 (dk_at dksX1_goesTo_2 12 rfl rfl)
theorem dX1_goesTo_60 : decode cX1_goesTo 60 = .ok (.iload_n 2, 1) := dk_28 (dk_at dksX1_goesTo_2 13 rfl rfl)
theorem dX1_goesTo_61 : decode cX1_goesTo 61 = .ok (.invokevirtual 199, 3) := dk_182 0 199 (dk_at dksX1_goesTo_2 14 rfl rfl)
theorem dX1_goesTo_64 : decode cX1_goesTo 64 = .ok (.ireturn, 1) := dk_172 (dk_at dksX1_goesTo_2 17 rfl rfl)
abbrev cX1_isSet : ByteArray := prog_1_method_19_code
def yX1_isSet : MethodName := ⟨RX1, "isSet", "(I)Z"⟩
def dkwX1_isSet_1 : List UInt8 := [130, 126, 154, 0, 7, 4, 167, 0, 4, 3, 172]
abbrev dktX1_isSet_1 : List UInt8 := dkwX1_isSet_1 ++ []
def dkwX1_isSet_0 : List UInt8 := [27, 3, 42, 180, 0, 101, 182, 0, 133, 184, 0, 86, 153, 0, 21, 27, 42, 180, 0, 33, 180, 0, 137, 2]
abbrev dktX1_isSet_0 : List UInt8 := dkwX1_isSet_0 ++ dktX1_isSet_1
theorem dksX1_isSet_0 : cX1_isSet.data.toList.drop 0 = dktX1_isSet_0 := by decide +kernel
theorem dksX1_isSet_1 : cX1_isSet.data.toList.drop 24 = dktX1_isSet_1 := dk_seg dksX1_isSet_0 24 rfl rfl
theorem dX1_isSet_0 : decode cX1_isSet 0 = .ok (.iload_n 1, 1) := dk_27 (dk_at dksX1_isSet_0 0 rfl rfl)
theorem dX1_isSet_1 : decode cX1_isSet 1 = .ok (.iconst 0, 1) := dk_3 (dk_at dksX1_isSet_0 1 rfl rfl)
theorem dX1_isSet_2 : decode cX1_isSet 2 = .ok (.aload_n 0, 1) := dk_42 (dk_at dksX1_isSet_0 2 rfl rfl)
theorem dX1_isSet_3 : decode cX1_isSet 3 = .ok (.getfield 101, 3) := dk_180 0 101 (dk_at dksX1_isSet_0 3 rfl rfl)
theorem dX1_isSet_6 : decode cX1_isSet 6 = .ok (.invokevirtual 133, 3) := dk_182 0 133 (dk_at dksX1_isSet_0 6 rfl rfl)
theorem dX1_isSet_9 : decode cX1_isSet 9 = .ok (.invokestatic 86, 3) := dk_184 0 86 (dk_at dksX1_isSet_0 9 rfl rfl)
theorem dX1_isSet_12 : decode cX1_isSet 12 = .ok (.ifCond .eq 21, 3) := dk_153 0 21 (dk_at dksX1_isSet_0 12 rfl rfl)
theorem dX1_isSet_15 : decode cX1_isSet 15 = .ok (.iload_n 1, 1) := dk_27 (dk_at dksX1_isSet_0 15 rfl rfl)
theorem dX1_isSet_16 : decode cX1_isSet 16 = .ok (.aload_n 0, 1) := dk_42 (dk_at dksX1_isSet_0 16 rfl rfl)
theorem dX1_isSet_17 : decode cX1_isSet 17 = .ok (.getfield 33, 3) := dk_180 0 33 (dk_at dksX1_isSet_0 17 rfl rfl)
theorem dX1_isSet_20 : decode cX1_isSet 20 = .ok (.getfield 137, 3) := dk_180 0 137 (dk_at dksX1_isSet_0 20 rfl rfl)
theorem dX1_isSet_23 : decode cX1_isSet 23 = .ok (.iconst (-1), 1) := dk_2 (dk_at dksX1_isSet_0 23 rfl rfl)
theorem dX1_isSet_24 : decode cX1_isSet 24 = .ok (.ixor, 1) := dk_130 (dk_at dksX1_isSet_1 0 rfl rfl)
theorem dX1_isSet_25 : decode cX1_isSet 25 = .ok (.iand, 1) := dk_126 (dk_at dksX1_isSet_1 1 rfl rfl)
theorem dX1_isSet_26 : decode cX1_isSet 26 = .ok (.ifCond .ne 7, 3) := dk_154 0 7 (dk_at dksX1_isSet_1 2 rfl rfl)
theorem dX1_isSet_29 : decode cX1_isSet 29 = .ok (.iconst 1, 1) := dk_4 (dk_at dksX1_isSet_1 5 rfl rfl)
theorem dX1_isSet_30 : decode cX1_isSet 30 = .ok (.goto 4, 3) := dk_167 0 4 (dk_at dksX1_isSet_1 6 rfl rfl)
theorem dX1_isSet_33 : decode cX1_isSet 33 = .ok (.iconst 0, 1) := dk_3 (dk_at dksX1_isSet_1 9 rfl rfl)
theorem dX1_isSet_34 : decode cX1_isSet 34 = .ok (.ireturn, 1) := dk_172 (dk_at dksX1_isSet_1 10 rfl rfl)
abbrev cX1_numberWhy : ByteArray := prog_1_method_17_code
def yX1_numberWhy : MethodName := ⟨RX1, "numberWhy", "(ZZ)I"⟩
def dkwX1_numberWhy_0 : List UInt8 := [27, 154, 0, 7, 4, 167, 0, 12, 28, 153, 0, 7, 3, 167, 0, 4, 5, 172]
abbrev dktX1_numberWhy_0 : List UInt8 := dkwX1_numberWhy_0 ++ []
theorem dksX1_numberWhy_0 : cX1_numberWhy.data.toList.drop 0 = dktX1_numberWhy_0 := by decide +kernel
theorem dX1_numberWhy_0 : decode cX1_numberWhy 0 = .ok (.iload_n 1, 1) := dk_27 (dk_at dksX1_numberWhy_0 0 rfl rfl)
theorem dX1_numberWhy_1 : decode cX1_numberWhy 1 = .ok (.ifCond .ne 7, 3) := dk_154 0 7 (dk_at dksX1_numberWhy_0 1 rfl rfl)
theorem dX1_numberWhy_4 : decode cX1_numberWhy 4 = .ok (.iconst 1, 1) := dk_4 (dk_at dksX1_numberWhy_0 4 rfl rfl)
theorem dX1_numberWhy_5 : decode cX1_numberWhy 5 = .ok (.goto 12, 3) := dk_167 0 12 (dk_at dksX1_numberWhy_0 5 rfl rfl)
theorem dX1_numberWhy_8 : decode cX1_numberWhy 8 = .ok (.iload_n 2, 1) := dk_28 (dk_at dksX1_numberWhy_0 8 rfl rfl)
theorem dX1_numberWhy_9 : decode cX1_numberWhy 9 = .ok (.ifCond .eq 7, 3) := dk_153 0 7 (dk_at dksX1_numberWhy_0 9 rfl rfl)
theorem dX1_numberWhy_12 : decode cX1_numberWhy 12 = .ok (.iconst 0, 1) := dk_3 (dk_at dksX1_numberWhy_0 12 rfl rfl)
theorem dX1_numberWhy_13 : decode cX1_numberWhy 13 = .ok (.goto 4, 3) := dk_167 0 4 (dk_at dksX1_numberWhy_0 13 rfl rfl)
theorem dX1_numberWhy_16 : decode cX1_numberWhy 16 = .ok (.iconst 2, 1) := dk_5 (dk_at dksX1_numberWhy_0 16 rfl rfl)
theorem dX1_numberWhy_17 : decode cX1_numberWhy 17 = .ok (.ireturn, 1) := dk_172 (dk_at dksX1_numberWhy_0 17 rfl rfl)
abbrev cX1_hasThen : ByteArray := prog_1_method_31_code
def yX1_hasThen : MethodName := ⟨RX1, "hasThen", "(II)I"⟩
def dkwX1_hasThen_2 : List UInt8 := [180, 0, 153, 27, 46, 172]
abbrev dktX1_hasThen_2 : List UInt8 := dkwX1_hasThen_2 ++ []
def dkwX1_hasThen_1 : List UInt8 := [29, 153, 0, 11, 42, 29, 182, 0, 90, 167, 0, 20, 42, 180, 0, 40, 42, 180, 0, 33, 28, 182, 0, 184]
abbrev dktX1_hasThen_1 : List UInt8 := dkwX1_hasThen_1 ++ dktX1_hasThen_2
def dkwX1_hasThen_0 : List UInt8 := [42, 182, 0, 76, 42, 27, 182, 0, 175, 62, 29, 154, 0, 13, 42, 28, 182, 0, 190, 154, 0, 5, 5, 62]
abbrev dktX1_hasThen_0 : List UInt8 := dkwX1_hasThen_0 ++ dktX1_hasThen_1
theorem dksX1_hasThen_0 : cX1_hasThen.data.toList.drop 0 = dktX1_hasThen_0 := by decide +kernel
theorem dksX1_hasThen_1 : cX1_hasThen.data.toList.drop 24 = dktX1_hasThen_1 := dk_seg dksX1_hasThen_0 24 rfl rfl
theorem dksX1_hasThen_2 : cX1_hasThen.data.toList.drop 48 = dktX1_hasThen_2 := dk_seg dksX1_hasThen_1 24 rfl rfl
theorem dX1_hasThen_0 : decode cX1_hasThen 0 = .ok (.aload_n 0, 1) := dk_42 (dk_at dksX1_hasThen_0 0 rfl rfl)
theorem dX1_hasThen_1 : decode cX1_hasThen 1 = .ok (.invokevirtual 76, 3) := dk_182 0 76 (dk_at dksX1_hasThen_0 1 rfl rfl)
theorem dX1_hasThen_4 : decode cX1_hasThen 4 = .ok (.aload_n 0, 1) := dk_42 (dk_at dksX1_hasThen_0 4 rfl rfl)
theorem dX1_hasThen_5 : decode cX1_hasThen 5 = .ok (.iload_n 1, 1) := dk_27 (dk_at dksX1_hasThen_0 5 rfl rfl)
theorem dX1_hasThen_6 : decode cX1_hasThen 6 = .ok (.invokevirtual 175, 3) := dk_182 0 175 (dk_at dksX1_hasThen_0 6 rfl rfl)
theorem dX1_hasThen_9 : decode cX1_hasThen 9 = .ok (.istore_n 3, 1) := dk_62 (dk_at dksX1_hasThen_0 9 rfl rfl)
theorem dX1_hasThen_10 : decode cX1_hasThen 10 = .ok (.iload_n 3, 1) := dk_29 (dk_at dksX1_hasThen_0 10 rfl rfl)
theorem dX1_hasThen_11 : decode cX1_hasThen 11 = .ok (.ifCond .ne 13, 3) := dk_154 0 13 (dk_at dksX1_hasThen_0 11 rfl rfl)
theorem dX1_hasThen_14 : decode cX1_hasThen 14 = .ok (.aload_n 0, 1) := dk_42 (dk_at dksX1_hasThen_0 14 rfl rfl)
theorem dX1_hasThen_15 : decode cX1_hasThen 15 = .ok (.iload_n 2, 1) := dk_28 (dk_at dksX1_hasThen_0 15 rfl rfl)
theorem dX1_hasThen_16 : decode cX1_hasThen 16 = .ok (.invokevirtual 190, 3) := dk_182 0 190 (dk_at dksX1_hasThen_0 16 rfl rfl)
theorem dX1_hasThen_19 : decode cX1_hasThen 19 = .ok (.ifCond .ne 5, 3) := dk_154 0 5 (dk_at dksX1_hasThen_0 19 rfl rfl)
theorem dX1_hasThen_22 : decode cX1_hasThen 22 = .ok (.iconst 2, 1) := dk_5 (dk_at dksX1_hasThen_0 22 rfl rfl)
theorem dX1_hasThen_23 : decode cX1_hasThen 23 = .ok (.istore_n 3, 1) := dk_62 (dk_at dksX1_hasThen_0 23 rfl rfl)
theorem dX1_hasThen_24 : decode cX1_hasThen 24 = .ok (.iload_n 3, 1) := dk_29 (dk_at dksX1_hasThen_1 0 rfl rfl)
theorem dX1_hasThen_25 : decode cX1_hasThen 25 = .ok (.ifCond .eq 11, 3) := dk_153 0 11 (dk_at dksX1_hasThen_1 1 rfl rfl)
theorem dX1_hasThen_28 : decode cX1_hasThen 28 = .ok (.aload_n 0, 1) := dk_42 (dk_at dksX1_hasThen_1 4 rfl rfl)
theorem dX1_hasThen_29 : decode cX1_hasThen 29 = .ok (.iload_n 3, 1) := dk_29 (dk_at dksX1_hasThen_1 5 rfl rfl)
theorem dX1_hasThen_30 : decode cX1_hasThen 30 = .ok (.invokevirtual 90, 3) := dk_182 0 90 (dk_at dksX1_hasThen_1 6 rfl rfl)
theorem dX1_hasThen_33 : decode cX1_hasThen 33 = .ok (.goto 20, 3) := dk_167 0 20 (dk_at dksX1_hasThen_1 9 rfl rfl)
theorem dX1_hasThen_36 : decode cX1_hasThen 36 = .ok (.aload_n 0, 1) := dk_42 (dk_at dksX1_hasThen_1 12 rfl rfl)
theorem dX1_hasThen_37 : decode cX1_hasThen 37 = .ok (.getfield 40, 3) := dk_180 0 40 (dk_at dksX1_hasThen_1 13 rfl rfl)
theorem dX1_hasThen_40 : decode cX1_hasThen 40 = .ok (.aload_n 0, 1) := dk_42 (dk_at dksX1_hasThen_1 16 rfl rfl)
theorem dX1_hasThen_41 : decode cX1_hasThen 41 = .ok (.getfield 33, 3) := dk_180 0 33 (dk_at dksX1_hasThen_1 17 rfl rfl)
theorem dX1_hasThen_44 : decode cX1_hasThen 44 = .ok (.iload_n 2, 1) := dk_28 (dk_at dksX1_hasThen_1 20 rfl rfl)
theorem dX1_hasThen_45 : decode cX1_hasThen 45 = .ok (.invokevirtual 184, 3) := dk_182 0 184 (dk_at dksX1_hasThen_1 21 rfl rfl)
theorem dX1_hasThen_48 : decode cX1_hasThen 48 = .ok (.getfield 153, 3) := dk_180 0 153 (dk_at dksX1_hasThen_2 0 rfl rfl)
theorem dX1_hasThen_51 : decode cX1_hasThen 51 = .ok (.iload_n 1, 1) := dk_27 (dk_at dksX1_hasThen_2 3 rfl rfl)
theorem dX1_hasThen_52 : decode cX1_hasThen 52 = .ok (.iaload, 1) := dk_46 (dk_at dksX1_hasThen_2 4 rfl rfl)
theorem dX1_hasThen_53 : decode cX1_hasThen 53 = .ok (.ireturn, 1) := dk_172 (dk_at dksX1_hasThen_2 5 rfl rfl)
abbrev cX1_catThen : ByteArray := prog_1_method_32_code
def yX1_catThen : MethodName := ⟨RX1, "catThen", "(I)I"⟩
def dkwX1_catThen_3 : List UInt8 := [180, 0, 33, 180, 0, 187, 100, 172]
abbrev dktX1_catThen_3 : List UInt8 := dkwX1_catThen_3 ++ []
def dkwX1_catThen_2 : List UInt8 := [182, 0, 90, 167, 0, 26, 42, 180, 0, 40, 42, 180, 0, 33, 27, 182, 0, 184, 180, 0, 187, 42]
abbrev dktX1_catThen_2 : List UInt8 := dkwX1_catThen_2 ++ dktX1_catThen_3
def dkwX1_catThen_1 : List UInt8 := [42, 27, 182, 0, 190, 153, 0, 7, 4, 167, 0, 4, 3, 182, 0, 195, 61, 28, 153, 0, 11, 42, 28]
abbrev dktX1_catThen_1 : List UInt8 := dkwX1_catThen_1 ++ dktX1_catThen_2
def dkwX1_catThen_0 : List UInt8 := [42, 182, 0, 76, 42, 42, 180, 0, 101, 198, 0, 7, 4, 167, 0, 4, 3, 42, 180, 0, 101, 198, 0, 15]
abbrev dktX1_catThen_0 : List UInt8 := dkwX1_catThen_0 ++ dktX1_catThen_1
theorem dksX1_catThen_0 : cX1_catThen.data.toList.drop 0 = dktX1_catThen_0 := by decide +kernel
theorem dksX1_catThen_1 : cX1_catThen.data.toList.drop 24 = dktX1_catThen_1 := dk_seg dksX1_catThen_0 24 rfl rfl
theorem dksX1_catThen_2 : cX1_catThen.data.toList.drop 47 = dktX1_catThen_2 := dk_seg dksX1_catThen_1 23 rfl rfl
theorem dksX1_catThen_3 : cX1_catThen.data.toList.drop 69 = dktX1_catThen_3 := dk_seg dksX1_catThen_2 22 rfl rfl
theorem dX1_catThen_0 : decode cX1_catThen 0 = .ok (.aload_n 0, 1) := dk_42 (dk_at dksX1_catThen_0 0 rfl rfl)
theorem dX1_catThen_1 : decode cX1_catThen 1 = .ok (.invokevirtual 76, 3) := dk_182 0 76 (dk_at dksX1_catThen_0 1 rfl rfl)
theorem dX1_catThen_4 : decode cX1_catThen 4 = .ok (.aload_n 0, 1) := dk_42 (dk_at dksX1_catThen_0 4 rfl rfl)
theorem dX1_catThen_5 : decode cX1_catThen 5 = .ok (.aload_n 0, 1) := dk_42 (dk_at dksX1_catThen_0 5 rfl rfl)
theorem dX1_catThen_6 : decode cX1_catThen 6 = .ok (.getfield 101, 3) := dk_180 0 101 (dk_at dksX1_catThen_0 6 rfl rfl)
theorem dX1_catThen_9 : decode cX1_catThen 9 = .ok (.ifnull 7, 3) := dk_198 0 7 (dk_at dksX1_catThen_0 9 rfl rfl)
theorem dX1_catThen_12 : decode cX1_catThen 12 = .ok (.iconst 1, 1) := dk_4 (dk_at dksX1_catThen_0 12 rfl rfl)
theorem dX1_catThen_13 : decode cX1_catThen 13 = .ok (.goto 4, 3) := dk_167 0 4 (dk_at dksX1_catThen_0 13 rfl rfl)
theorem dX1_catThen_16 : decode cX1_catThen 16 = .ok (.iconst 0, 1) := dk_3 (dk_at dksX1_catThen_0 16 rfl rfl)
theorem dX1_catThen_17 : decode cX1_catThen 17 = .ok (.aload_n 0, 1) := dk_42 (dk_at dksX1_catThen_0 17 rfl rfl)
theorem dX1_catThen_18 : decode cX1_catThen 18 = .ok (.getfield 101, 3) := dk_180 0 101 (dk_at dksX1_catThen_0 18 rfl rfl)
theorem dX1_catThen_21 : decode cX1_catThen 21 = .ok (.ifnull 15, 3) := dk_198 0 15 (dk_at dksX1_catThen_0 21 rfl rfl)
theorem dX1_catThen_24 : decode cX1_catThen 24 = .ok (.aload_n 0, 1) := dk_42 (dk_at dksX1_catThen_1 0 rfl rfl)
theorem dX1_catThen_25 : decode cX1_catThen 25 = .ok (.iload_n 1, 1) := dk_27 (dk_at dksX1_catThen_1 1 rfl rfl)
theorem dX1_catThen_26 : decode cX1_catThen 26 = .ok (.invokevirtual 190, 3) := dk_182 0 190 (dk_at dksX1_catThen_1 2 rfl rfl)
theorem dX1_catThen_29 : decode cX1_catThen 29 = .ok (.ifCond .eq 7, 3) := dk_153 0 7 (dk_at dksX1_catThen_1 5 rfl rfl)
theorem dX1_catThen_32 : decode cX1_catThen 32 = .ok (.iconst 1, 1) := dk_4 (dk_at dksX1_catThen_1 8 rfl rfl)
theorem dX1_catThen_33 : decode cX1_catThen 33 = .ok (.goto 4, 3) := dk_167 0 4 (dk_at dksX1_catThen_1 9 rfl rfl)
theorem dX1_catThen_36 : decode cX1_catThen 36 = .ok (.iconst 0, 1) := dk_3 (dk_at dksX1_catThen_1 12 rfl rfl)
theorem dX1_catThen_37 : decode cX1_catThen 37 = .ok (.invokevirtual 195, 3) := dk_182 0 195 (dk_at dksX1_catThen_1 13 rfl rfl)
theorem dX1_catThen_40 : decode cX1_catThen 40 = .ok (.istore_n 2, 1) := dk_61 (dk_at dksX1_catThen_1 16 rfl rfl)
theorem dX1_catThen_41 : decode cX1_catThen 41 = .ok (.iload_n 2, 1) := dk_28 (dk_at dksX1_catThen_1 17 rfl rfl)
theorem dX1_catThen_42 : decode cX1_catThen 42 = .ok (.ifCond .eq 11, 3) := dk_153 0 11 (dk_at dksX1_catThen_1 18 rfl rfl)
theorem dX1_catThen_45 : decode cX1_catThen 45 = .ok (.aload_n 0, 1) := dk_42 (dk_at dksX1_catThen_1 21 rfl rfl)
theorem dX1_catThen_46 : decode cX1_catThen 46 = .ok (.iload_n 2, 1) := dk_28 (dk_at dksX1_catThen_1 22 rfl rfl)
theorem dX1_catThen_47 : decode cX1_catThen 47 = .ok (.invokevirtual 90, 3) := dk_182 0 90 (dk_at dksX1_catThen_2 0 rfl rfl)
theorem dX1_catThen_50 : decode cX1_catThen 50 = .ok (.goto 26, 3) := dk_167 0 26 (dk_at dksX1_catThen_2 3 rfl rfl)
theorem dX1_catThen_53 : decode cX1_catThen 53 = .ok (.aload_n 0, 1) := dk_42 (dk_at dksX1_catThen_2 6 rfl rfl)
theorem dX1_catThen_54 : decode cX1_catThen 54 = .ok (.getfield 40, 3) := dk_180 0 40 (dk_at dksX1_catThen_2 7 rfl rfl)
theorem dX1_catThen_57 : decode cX1_catThen 57 = .ok (.aload_n 0, 1) := dk_42 (dk_at dksX1_catThen_2 10 rfl rfl)
theorem dX1_catThen_58 : decode cX1_catThen 58 = .ok (.getfield 33, 3) := dk_180 0 33 (dk_at dksX1_catThen_2 11 rfl rfl)
theorem dX1_catThen_61 : decode cX1_catThen 61 = .ok (.iload_n 1, 1) := dk_27 (dk_at dksX1_catThen_2 14 rfl rfl)
theorem dX1_catThen_62 : decode cX1_catThen 62 = .ok (.invokevirtual 184, 3) := dk_182 0 184 (dk_at dksX1_catThen_2 15 rfl rfl)
theorem dX1_catThen_65 : decode cX1_catThen 65 = .ok (.getfield 187, 3) := dk_180 0 187 (dk_at dksX1_catThen_2 18 rfl rfl)
theorem dX1_catThen_68 : decode cX1_catThen 68 = .ok (.aload_n 0, 1) := dk_42 (dk_at dksX1_catThen_2 21 rfl rfl)
theorem dX1_catThen_69 : decode cX1_catThen 69 = .ok (.getfield 33, 3) := dk_180 0 33 (dk_at dksX1_catThen_3 0 rfl rfl)
theorem dX1_catThen_72 : decode cX1_catThen 72 = .ok (.getfield 187, 3) := dk_180 0 187 (dk_at dksX1_catThen_3 3 rfl rfl)
theorem dX1_catThen_75 : decode cX1_catThen 75 = .ok (.isub, 1) := dk_100 (dk_at dksX1_catThen_3 6 rfl rfl)
theorem dX1_catThen_76 : decode cX1_catThen 76 = .ok (.ireturn, 1) := dk_172 (dk_at dksX1_catThen_3 7 rfl rfl)
abbrev cX1_rounds : ByteArray := prog_1_method_34_code
def yX1_rounds : MethodName := ⟨RX1, "rounds", "()I"⟩
def dkwX1_rounds_2 : List UInt8 := [182, 0, 202, 153, 0, 9, 4, 28, 120, 167, 0, 4, 3, 128, 60, 132, 2, 1, 167, 255, 213, 27, 172]
abbrev dktX1_rounds_2 : List UInt8 := dkwX1_rounds_2 ++ []
def dkwX1_rounds_1 : List UInt8 := [180, 0, 101, 180, 0, 121, 162, 0, 38, 27, 42, 180, 0, 33, 28, 182, 0, 130, 153, 0, 17, 42, 28]
abbrev dktX1_rounds_1 : List UInt8 := dkwX1_rounds_1 ++ dktX1_rounds_2
def dkwX1_rounds_0 : List UInt8 := [42, 182, 0, 76, 42, 180, 0, 101, 199, 0, 9, 42, 4, 182, 0, 90, 172, 3, 60, 3, 61, 28, 42]
abbrev dktX1_rounds_0 : List UInt8 := dkwX1_rounds_0 ++ dktX1_rounds_1
theorem dksX1_rounds_0 : cX1_rounds.data.toList.drop 0 = dktX1_rounds_0 := by decide +kernel
theorem dksX1_rounds_1 : cX1_rounds.data.toList.drop 23 = dktX1_rounds_1 := dk_seg dksX1_rounds_0 23 rfl rfl
theorem dksX1_rounds_2 : cX1_rounds.data.toList.drop 46 = dktX1_rounds_2 := dk_seg dksX1_rounds_1 23 rfl rfl
theorem dX1_rounds_0 : decode cX1_rounds 0 = .ok (.aload_n 0, 1) := dk_42 (dk_at dksX1_rounds_0 0 rfl rfl)
theorem dX1_rounds_1 : decode cX1_rounds 1 = .ok (.invokevirtual 76, 3) := dk_182 0 76 (dk_at dksX1_rounds_0 1 rfl rfl)
theorem dX1_rounds_4 : decode cX1_rounds 4 = .ok (.aload_n 0, 1) := dk_42 (dk_at dksX1_rounds_0 4 rfl rfl)
theorem dX1_rounds_5 : decode cX1_rounds 5 = .ok (.getfield 101, 3) := dk_180 0 101 (dk_at dksX1_rounds_0 5 rfl rfl)
theorem dX1_rounds_8 : decode cX1_rounds 8 = .ok (.ifnonnull 9, 3) := dk_199 0 9 (dk_at dksX1_rounds_0 8 rfl rfl)
theorem dX1_rounds_11 : decode cX1_rounds 11 = .ok (.aload_n 0, 1) := dk_42 (dk_at dksX1_rounds_0 11 rfl rfl)
theorem dX1_rounds_12 : decode cX1_rounds 12 = .ok (.iconst 1, 1) := dk_4 (dk_at dksX1_rounds_0 12 rfl rfl)
theorem dX1_rounds_13 : decode cX1_rounds 13 = .ok (.invokevirtual 90, 3) := dk_182 0 90 (dk_at dksX1_rounds_0 13 rfl rfl)
theorem dX1_rounds_16 : decode cX1_rounds 16 = .ok (.ireturn, 1) := dk_172 (dk_at dksX1_rounds_0 16 rfl rfl)
theorem dX1_rounds_17 : decode cX1_rounds 17 = .ok (.iconst 0, 1) := dk_3 (dk_at dksX1_rounds_0 17 rfl rfl)
theorem dX1_rounds_18 : decode cX1_rounds 18 = .ok (.istore_n 1, 1) := dk_60 (dk_at dksX1_rounds_0 18 rfl rfl)
theorem dX1_rounds_19 : decode cX1_rounds 19 = .ok (.iconst 0, 1) := dk_3 (dk_at dksX1_rounds_0 19 rfl rfl)
theorem dX1_rounds_20 : decode cX1_rounds 20 = .ok (.istore_n 2, 1) := dk_61 (dk_at dksX1_rounds_0 20 rfl rfl)
theorem dX1_rounds_21 : decode cX1_rounds 21 = .ok (.iload_n 2, 1) := dk_28 (dk_at dksX1_rounds_0 21 rfl rfl)
theorem dX1_rounds_22 : decode cX1_rounds 22 = .ok (.aload_n 0, 1) := dk_42 (dk_at dksX1_rounds_0 22 rfl rfl)
theorem dX1_rounds_23 : decode cX1_rounds 23 = .ok (.getfield 101, 3) := dk_180 0 101 (dk_at dksX1_rounds_1 0 rfl rfl)
theorem dX1_rounds_26 : decode cX1_rounds 26 = .ok (.getfield 121, 3) := dk_180 0 121 (dk_at dksX1_rounds_1 3 rfl rfl)
theorem dX1_rounds_29 : decode cX1_rounds 29 = .ok (.if_icmp .ge 38, 3) := dk_162 0 38 (dk_at dksX1_rounds_1 6 rfl rfl)
theorem dX1_rounds_32 : decode cX1_rounds 32 = .ok (.iload_n 1, 1) := dk_27 (dk_at dksX1_rounds_1 9 rfl rfl)
theorem dX1_rounds_33 : decode cX1_rounds 33 = .ok (.aload_n 0, 1) := dk_42 (dk_at dksX1_rounds_1 10 rfl rfl)
theorem dX1_rounds_34 : decode cX1_rounds 34 = .ok (.getfield 33, 3) := dk_180 0 33 (dk_at dksX1_rounds_1 11 rfl rfl)
theorem dX1_rounds_37 : decode cX1_rounds 37 = .ok (.iload_n 2, 1) := dk_28 (dk_at dksX1_rounds_1 14 rfl rfl)
theorem dX1_rounds_38 : decode cX1_rounds 38 = .ok (.invokevirtual 130, 3) := dk_182 0 130 (dk_at dksX1_rounds_1 15 rfl rfl)
theorem dX1_rounds_41 : decode cX1_rounds 41 = .ok (.ifCond .eq 17, 3) := dk_153 0 17 (dk_at dksX1_rounds_1 18 rfl rfl)
theorem dX1_rounds_44 : decode cX1_rounds 44 = .ok (.aload_n 0, 1) := dk_42 (dk_at dksX1_rounds_1 21 rfl rfl)
theorem dX1_rounds_45 : decode cX1_rounds 45 = .ok (.iload_n 2, 1) := dk_28 (dk_at dksX1_rounds_1 22 rfl rfl)
theorem dX1_rounds_46 : decode cX1_rounds 46 = .ok (.invokevirtual 202, 3) := dk_182 0 202 (dk_at dksX1_rounds_2 0 rfl rfl)
theorem dX1_rounds_49 : decode cX1_rounds 49 = .ok (.ifCond .eq 9, 3) := dk_153 0 9 (dk_at dksX1_rounds_2 3 rfl rfl)
theorem dX1_rounds_52 : decode cX1_rounds 52 = .ok (.iconst 1, 1) := dk_4 (dk_at dksX1_rounds_2 6 rfl rfl)
theorem dX1_rounds_53 : decode cX1_rounds 53 = .ok (.iload_n 2, 1) := dk_28 (dk_at dksX1_rounds_2 7 rfl rfl)
theorem dX1_rounds_54 : decode cX1_rounds 54 = .ok (.ishl, 1) := dk_120 (dk_at dksX1_rounds_2 8 rfl rfl)
theorem dX1_rounds_55 : decode cX1_rounds 55 = .ok (.goto 4, 3) := dk_167 0 4 (dk_at dksX1_rounds_2 9 rfl rfl)
theorem dX1_rounds_58 : decode cX1_rounds 58 = .ok (.iconst 0, 1) := dk_3 (dk_at dksX1_rounds_2 12 rfl rfl)
theorem dX1_rounds_59 : decode cX1_rounds 59 = .ok (.ior, 1) := dk_128 (dk_at dksX1_rounds_2 13 rfl rfl)
theorem dX1_rounds_60 : decode cX1_rounds 60 = .ok (.istore_n 1, 1) := dk_60 (dk_at dksX1_rounds_2 14 rfl rfl)
theorem dX1_rounds_61 : decode cX1_rounds 61 = .ok (.iinc 2 1, 3) := dk_132 2 1 (dk_at dksX1_rounds_2 15 rfl rfl)
theorem dX1_rounds_64 : decode cX1_rounds 64 = .ok (.goto (-43), 3) := dk_167 255 213 (dk_at dksX1_rounds_2 18 rfl rfl)
theorem dX1_rounds_67 : decode cX1_rounds 67 = .ok (.iload_n 1, 1) := dk_27 (dk_at dksX1_rounds_2 21 rfl rfl)
theorem dX1_rounds_68 : decode cX1_rounds 68 = .ok (.ireturn, 1) := dk_172 (dk_at dksX1_rounds_2 22 rfl rfl)
abbrev cX1_comesRound : ByteArray := prog_1_method_33_code
def yX1_comesRound : MethodName := ⟨RX1, "comesRound", "(I)Z"⟩
def dkwX1_comesRound_1 : List UInt8 := [27, 160, 0, 5, 4, 172, 42, 180, 0, 33, 28, 182, 0, 178, 61, 132, 3, 1, 167, 255, 225, 3, 172]
abbrev dktX1_comesRound_1 : List UInt8 := dkwX1_comesRound_1 ++ []
def dkwX1_comesRound_0 : List UInt8 := [42, 180, 0, 33, 27, 182, 0, 178, 61, 3, 62, 29, 16, 6, 162, 0, 31, 28, 16, 254, 159, 0, 25, 28]
abbrev dktX1_comesRound_0 : List UInt8 := dkwX1_comesRound_0 ++ dktX1_comesRound_1
theorem dksX1_comesRound_0 : cX1_comesRound.data.toList.drop 0 = dktX1_comesRound_0 := by decide +kernel
theorem dksX1_comesRound_1 : cX1_comesRound.data.toList.drop 24 = dktX1_comesRound_1 := dk_seg dksX1_comesRound_0 24 rfl rfl
theorem dX1_comesRound_0 : decode cX1_comesRound 0 = .ok (.aload_n 0, 1) := dk_42 (dk_at dksX1_comesRound_0 0 rfl rfl)
theorem dX1_comesRound_1 : decode cX1_comesRound 1 = .ok (.getfield 33, 3) := dk_180 0 33 (dk_at dksX1_comesRound_0 1 rfl rfl)
theorem dX1_comesRound_4 : decode cX1_comesRound 4 = .ok (.iload_n 1, 1) := dk_27 (dk_at dksX1_comesRound_0 4 rfl rfl)
theorem dX1_comesRound_5 : decode cX1_comesRound 5 = .ok (.invokevirtual 178, 3) := dk_182 0 178 (dk_at dksX1_comesRound_0 5 rfl rfl)
theorem dX1_comesRound_8 : decode cX1_comesRound 8 = .ok (.istore_n 2, 1) := dk_61 (dk_at dksX1_comesRound_0 8 rfl rfl)
theorem dX1_comesRound_9 : decode cX1_comesRound 9 = .ok (.iconst 0, 1) := dk_3 (dk_at dksX1_comesRound_0 9 rfl rfl)
theorem dX1_comesRound_10 : decode cX1_comesRound 10 = .ok (.istore_n 3, 1) := dk_62 (dk_at dksX1_comesRound_0 10 rfl rfl)
theorem dX1_comesRound_11 : decode cX1_comesRound 11 = .ok (.iload_n 3, 1) := dk_29 (dk_at dksX1_comesRound_0 11 rfl rfl)
theorem dX1_comesRound_12 : decode cX1_comesRound 12 = .ok (.bipush 6, 2) := dk_16 6 (dk_at dksX1_comesRound_0 12 rfl rfl)
theorem dX1_comesRound_14 : decode cX1_comesRound 14 = .ok (.if_icmp .ge 31, 3) := dk_162 0 31 (dk_at dksX1_comesRound_0 14 rfl rfl)
theorem dX1_comesRound_17 : decode cX1_comesRound 17 = .ok (.iload_n 2, 1) := dk_28 (dk_at dksX1_comesRound_0 17 rfl rfl)
theorem dX1_comesRound_18 : decode cX1_comesRound 18 = .ok (.bipush (-2), 2) := dk_16 254 (dk_at dksX1_comesRound_0 18 rfl rfl)
theorem dX1_comesRound_20 : decode cX1_comesRound 20 = .ok (.if_icmp .eq 25, 3) := dk_159 0 25 (dk_at dksX1_comesRound_0 20 rfl rfl)
theorem dX1_comesRound_23 : decode cX1_comesRound 23 = .ok (.iload_n 2, 1) := dk_28 (dk_at dksX1_comesRound_0 23 rfl rfl)
theorem dX1_comesRound_24 : decode cX1_comesRound 24 = .ok (.iload_n 1, 1) := dk_27 (dk_at dksX1_comesRound_1 0 rfl rfl)
theorem dX1_comesRound_25 : decode cX1_comesRound 25 = .ok (.if_icmp .ne 5, 3) := dk_160 0 5 (dk_at dksX1_comesRound_1 1 rfl rfl)
theorem dX1_comesRound_28 : decode cX1_comesRound 28 = .ok (.iconst 1, 1) := dk_4 (dk_at dksX1_comesRound_1 4 rfl rfl)
theorem dX1_comesRound_29 : decode cX1_comesRound 29 = .ok (.ireturn, 1) := dk_172 (dk_at dksX1_comesRound_1 5 rfl rfl)
theorem dX1_comesRound_30 : decode cX1_comesRound 30 = .ok (.aload_n 0, 1) := dk_42 (dk_at dksX1_comesRound_1 6 rfl rfl)
theorem dX1_comesRound_31 : decode cX1_comesRound 31 = .ok (.getfield 33, 3) := dk_180 0 33 (dk_at dksX1_comesRound_1 7 rfl rfl)
theorem dX1_comesRound_34 : decode cX1_comesRound 34 = .ok (.iload_n 2, 1) := dk_28 (dk_at dksX1_comesRound_1 10 rfl rfl)
theorem dX1_comesRound_35 : decode cX1_comesRound 35 = .ok (.invokevirtual 178, 3) := dk_182 0 178 (dk_at dksX1_comesRound_1 11 rfl rfl)
theorem dX1_comesRound_38 : decode cX1_comesRound 38 = .ok (.istore_n 2, 1) := dk_61 (dk_at dksX1_comesRound_1 14 rfl rfl)
theorem dX1_comesRound_39 : decode cX1_comesRound 39 = .ok (.iinc 3 1, 3) := dk_132 3 1 (dk_at dksX1_comesRound_1 15 rfl rfl)
theorem dX1_comesRound_42 : decode cX1_comesRound 42 = .ok (.goto (-31), 3) := dk_167 255 225 (dk_at dksX1_comesRound_1 18 rfl rfl)
theorem dX1_comesRound_45 : decode cX1_comesRound 45 = .ok (.iconst 0, 1) := dk_3 (dk_at dksX1_comesRound_1 21 rfl rfl)
theorem dX1_comesRound_46 : decode cX1_comesRound 46 = .ok (.ireturn, 1) := dk_172 (dk_at dksX1_comesRound_1 22 rfl rfl)
abbrev cX1_worthiest : ByteArray := prog_1_method_35_code
def yX1_worthiest : MethodName := ⟨RX1, "worthiest", "()I"⟩
def dkwX1_worthiest_4 : List UInt8 := [27, 172]
abbrev dktX1_worthiest_4 : List UInt8 := dkwX1_worthiest_4 ++ []
def dkwX1_worthiest_3 : List UInt8 := [3, 167, 0, 12, 42, 180, 0, 33, 180, 0, 153, 27, 46, 164, 0, 5, 28, 60, 132, 2, 1, 167, 255, 185]
abbrev dktX1_worthiest_3 : List UInt8 := dkwX1_worthiest_3 ++ dktX1_worthiest_4
def dkwX1_worthiest_2 : List UInt8 := [28, 182, 0, 178, 16, 254, 159, 0, 36, 42, 180, 0, 33, 180, 0, 153, 28, 46, 27, 16, 254, 160, 0, 7]
abbrev dktX1_worthiest_2 : List UInt8 := dkwX1_worthiest_2 ++ dktX1_worthiest_3
def dkwX1_worthiest_1 : List UInt8 := [180, 0, 101, 180, 0, 121, 162, 0, 66, 42, 180, 0, 33, 28, 182, 0, 130, 153, 0, 49, 42, 180, 0, 33]
abbrev dktX1_worthiest_1 : List UInt8 := dkwX1_worthiest_1 ++ dktX1_worthiest_2
def dkwX1_worthiest_0 : List UInt8 := [42, 182, 0, 76, 42, 180, 0, 101, 199, 0, 9, 42, 4, 182, 0, 90, 172, 16, 254, 60, 3, 61, 28, 42]
abbrev dktX1_worthiest_0 : List UInt8 := dkwX1_worthiest_0 ++ dktX1_worthiest_1
theorem dksX1_worthiest_0 : cX1_worthiest.data.toList.drop 0 = dktX1_worthiest_0 := by decide +kernel
theorem dksX1_worthiest_1 : cX1_worthiest.data.toList.drop 24 = dktX1_worthiest_1 := dk_seg dksX1_worthiest_0 24 rfl rfl
theorem dksX1_worthiest_2 : cX1_worthiest.data.toList.drop 48 = dktX1_worthiest_2 := dk_seg dksX1_worthiest_1 24 rfl rfl
theorem dksX1_worthiest_3 : cX1_worthiest.data.toList.drop 72 = dktX1_worthiest_3 := dk_seg dksX1_worthiest_2 24 rfl rfl
theorem dksX1_worthiest_4 : cX1_worthiest.data.toList.drop 96 = dktX1_worthiest_4 := dk_seg dksX1_worthiest_3 24 rfl rfl
theorem dX1_worthiest_0 : decode cX1_worthiest 0 = .ok (.aload_n 0, 1) := dk_42 (dk_at dksX1_worthiest_0 0 rfl rfl)
theorem dX1_worthiest_1 : decode cX1_worthiest 1 = .ok (.invokevirtual 76, 3) := dk_182 0 76 (dk_at dksX1_worthiest_0 1 rfl rfl)
theorem dX1_worthiest_4 : decode cX1_worthiest 4 = .ok (.aload_n 0, 1) := dk_42 (dk_at dksX1_worthiest_0 4 rfl rfl)
theorem dX1_worthiest_5 : decode cX1_worthiest 5 = .ok (.getfield 101, 3) := dk_180 0 101 (dk_at dksX1_worthiest_0 5 rfl rfl)
theorem dX1_worthiest_8 : decode cX1_worthiest 8 = .ok (.ifnonnull 9, 3) := dk_199 0 9 (dk_at dksX1_worthiest_0 8 rfl rfl)
theorem dX1_worthiest_11 : decode cX1_worthiest 11 = .ok (.aload_n 0, 1) := dk_42 (dk_at dksX1_worthiest_0 11 rfl rfl)
theorem dX1_worthiest_12 : decode cX1_worthiest 12 = .ok (.iconst 1, 1) := dk_4 (dk_at dksX1_worthiest_0 12 rfl rfl)
theorem dX1_worthiest_13 : decode cX1_worthiest 13 = .ok (.invokevirtual 90, 3) := dk_182 0 90 (dk_at dksX1_worthiest_0 13 rfl rfl)
theorem dX1_worthiest_16 : decode cX1_worthiest 16 = .ok (.ireturn, 1) := dk_172 (dk_at dksX1_worthiest_0 16 rfl rfl)
theorem dX1_worthiest_17 : decode cX1_worthiest 17 = .ok (.bipush (-2), 2) := dk_16 254 (dk_at dksX1_worthiest_0 17 rfl rfl)
theorem dX1_worthiest_19 : decode cX1_worthiest 19 = .ok (.istore_n 1, 1) := dk_60 (dk_at dksX1_worthiest_0 19 rfl rfl)
theorem dX1_worthiest_20 : decode cX1_worthiest 20 = .ok (.iconst 0, 1) := dk_3 (dk_at dksX1_worthiest_0 20 rfl rfl)
theorem dX1_worthiest_21 : decode cX1_worthiest 21 = .ok (.istore_n 2, 1) := dk_61 (dk_at dksX1_worthiest_0 21 rfl rfl)
theorem dX1_worthiest_22 : decode cX1_worthiest 22 = .ok (.iload_n 2, 1) := dk_28 (dk_at dksX1_worthiest_0 22 rfl rfl)
theorem dX1_worthiest_23 : decode cX1_worthiest 23 = .ok (.aload_n 0, 1) := dk_42 (dk_at dksX1_worthiest_0 23 rfl rfl)
theorem dX1_worthiest_24 : decode cX1_worthiest 24 = .ok (.getfield 101, 3) := dk_180 0 101 (dk_at dksX1_worthiest_1 0 rfl rfl)
theorem dX1_worthiest_27 : decode cX1_worthiest 27 = .ok (.getfield 121, 3) := dk_180 0 121 (dk_at dksX1_worthiest_1 3 rfl rfl)
theorem dX1_worthiest_30 : decode cX1_worthiest 30 = .ok (.if_icmp .ge 66, 3) := dk_162 0 66 (dk_at dksX1_worthiest_1 6 rfl rfl)
theorem dX1_worthiest_33 : decode cX1_worthiest 33 = .ok (.aload_n 0, 1) := dk_42 (dk_at dksX1_worthiest_1 9 rfl rfl)
theorem dX1_worthiest_34 : decode cX1_worthiest 34 = .ok (.getfield 33, 3) := dk_180 0 33 (dk_at dksX1_worthiest_1 10 rfl rfl)
theorem dX1_worthiest_37 : decode cX1_worthiest 37 = .ok (.iload_n 2, 1) := dk_28 (dk_at dksX1_worthiest_1 13 rfl rfl)
theorem dX1_worthiest_38 : decode cX1_worthiest 38 = .ok (.invokevirtual 130, 3) := dk_182 0 130 (dk_at dksX1_worthiest_1 14 rfl rfl)
theorem dX1_worthiest_41 : decode cX1_worthiest 41 = .ok (.ifCond .eq 49, 3) := dk_153 0 49 (dk_at dksX1_worthiest_1 17 rfl rfl)
theorem dX1_worthiest_44 : decode cX1_worthiest 44 = .ok (.aload_n 0, 1) := dk_42 (dk_at dksX1_worthiest_1 20 rfl rfl)
theorem dX1_worthiest_45 : decode cX1_worthiest 45 = .ok (.getfield 33, 3) := dk_180 0 33 (dk_at dksX1_worthiest_1 21 rfl rfl)
theorem dX1_worthiest_48 : decode cX1_worthiest 48 = .ok (.iload_n 2, 1) := dk_28 (dk_at dksX1_worthiest_2 0 rfl rfl)
theorem dX1_worthiest_49 : decode cX1_worthiest 49 = .ok (.invokevirtual 178, 3) := dk_182 0 178 (dk_at dksX1_worthiest_2 1 rfl rfl)
theorem dX1_worthiest_52 : decode cX1_worthiest 52 = .ok (.bipush (-2), 2) := dk_16 254 (dk_at dksX1_worthiest_2 4 rfl rfl)
theorem dX1_worthiest_54 : decode cX1_worthiest 54 = .ok (.if_icmp .eq 36, 3) := dk_159 0 36 (dk_at dksX1_worthiest_2 6 rfl rfl)
theorem dX1_worthiest_57 : decode cX1_worthiest 57 = .ok (.aload_n 0, 1) := dk_42 (dk_at dksX1_worthiest_2 9 rfl rfl)
theorem dX1_worthiest_58 : decode cX1_worthiest 58 = .ok (.getfield 33, 3) := dk_180 0 33 (dk_at dksX1_worthiest_2 10 rfl rfl)
theorem dX1_worthiest_61 : decode cX1_worthiest 61 = .ok (.getfield 153, 3) := dk_180 0 153 (dk_at dksX1_worthiest_2 13 rfl rfl)
theorem dX1_worthiest_64 : decode cX1_worthiest 64 = .ok (.iload_n 2, 1) := dk_28 (dk_at dksX1_worthiest_2 16 rfl rfl)
theorem dX1_worthiest_65 : decode cX1_worthiest 65 = .ok (.iaload, 1) := dk_46 (dk_at dksX1_worthiest_2 17 rfl rfl)
theorem dX1_worthiest_66 : decode cX1_worthiest 66 = .ok (.iload_n 1, 1) := dk_27 (dk_at dksX1_worthiest_2 18 rfl rfl)
theorem dX1_worthiest_67 : decode cX1_worthiest 67 = .ok (.bipush (-2), 2) := dk_16 254 (dk_at dksX1_worthiest_2 19 rfl rfl)
theorem dX1_worthiest_69 : decode cX1_worthiest 69 = .ok (.if_icmp .ne 7, 3) := dk_160 0 7 (dk_at dksX1_worthiest_2 21 rfl rfl)
theorem dX1_worthiest_72 : decode cX1_worthiest 72 = .ok (.iconst 0, 1) := dk_3 (dk_at dksX1_worthiest_3 0 rfl rfl)
theorem dX1_worthiest_73 : decode cX1_worthiest 73 = .ok (.goto 12, 3) := dk_167 0 12 (dk_at dksX1_worthiest_3 1 rfl rfl)
theorem dX1_worthiest_76 : decode cX1_worthiest 76 = .ok (.aload_n 0, 1) := dk_42 (dk_at dksX1_worthiest_3 4 rfl rfl)
theorem dX1_worthiest_77 : decode cX1_worthiest 77 = .ok (.getfield 33, 3) := dk_180 0 33 (dk_at dksX1_worthiest_3 5 rfl rfl)
theorem dX1_worthiest_80 : decode cX1_worthiest 80 = .ok (.getfield 153, 3) := dk_180 0 153 (dk_at dksX1_worthiest_3 8 rfl rfl)
theorem dX1_worthiest_83 : decode cX1_worthiest 83 = .ok (.iload_n 1, 1) := dk_27 (dk_at dksX1_worthiest_3 11 rfl rfl)
theorem dX1_worthiest_84 : decode cX1_worthiest 84 = .ok (.iaload, 1) := dk_46 (dk_at dksX1_worthiest_3 12 rfl rfl)
theorem dX1_worthiest_85 : decode cX1_worthiest 85 = .ok (.if_icmp .le 5, 3) := dk_164 0 5 (dk_at dksX1_worthiest_3 13 rfl rfl)
theorem dX1_worthiest_88 : decode cX1_worthiest 88 = .ok (.iload_n 2, 1) := dk_28 (dk_at dksX1_worthiest_3 16 rfl rfl)
theorem dX1_worthiest_89 : decode cX1_worthiest 89 = .ok (.istore_n 1, 1) := dk_60 (dk_at dksX1_worthiest_3 17 rfl rfl)
theorem dX1_worthiest_90 : decode cX1_worthiest 90 = .ok (.iinc 2 1, 3) := dk_132 2 1 (dk_at dksX1_worthiest_3 18 rfl rfl)
theorem dX1_worthiest_93 : decode cX1_worthiest 93 = .ok (.goto (-71), 3) := dk_167 255 185 (dk_at dksX1_worthiest_3 21 rfl rfl)
theorem dX1_worthiest_96 : decode cX1_worthiest 96 = .ok (.iload_n 1, 1) := dk_27 (dk_at dksX1_worthiest_4 0 rfl rfl)
theorem dX1_worthiest_97 : decode cX1_worthiest 97 = .ok (.ireturn, 1) := dk_172 (dk_at dksX1_worthiest_4 1 rfl rfl)
abbrev cX1_plot : ByteArray := prog_1_method_36_code
def yX1_plot : MethodName := ⟨RX1, "plot", "(II)I"⟩
def dkwX1_plot_5 : List UInt8 := [21, 4, 62, 132, 4, 1, 167, 255, 179, 29, 172]
abbrev dktX1_plot_5 : List UInt8 := dkwX1_plot_5 ++ []
def dkwX1_plot_4 : List UInt8 := [184, 0, 205, 29, 184, 0, 205, 162, 0, 20, 42, 180, 0, 33, 27, 21, 4, 182, 0, 199, 28, 160, 0, 6]
abbrev dktX1_plot_4 : List UInt8 := dkwX1_plot_4 ++ dktX1_plot_5
def dkwX1_plot_3 : List UInt8 := [184, 0, 193, 153, 0, 47, 21, 4, 28, 184, 0, 193, 154, 0, 38, 29, 16, 254, 159, 0, 15, 21, 4]
abbrev dktX1_plot_3 : List UInt8 := dkwX1_plot_3 ++ dktX1_plot_4
def dkwX1_plot_2 : List UInt8 := [21, 4, 42, 180, 0, 101, 182, 0, 133, 163, 0, 71, 42, 21, 4, 182, 0, 190, 153, 0, 56, 21, 4, 27]
abbrev dktX1_plot_2 : List UInt8 := dkwX1_plot_2 ++ dktX1_plot_3
def dkwX1_plot_1 : List UInt8 := [42, 180, 0, 33, 28, 182, 0, 130, 154, 0, 9, 42, 4, 182, 0, 90, 172, 16, 254, 62, 3, 54, 4]
abbrev dktX1_plot_1 : List UInt8 := dkwX1_plot_1 ++ dktX1_plot_2
def dkwX1_plot_0 : List UInt8 := [42, 182, 0, 76, 42, 27, 28, 182, 0, 168, 153, 0, 25, 42, 180, 0, 33, 27, 182, 0, 130, 153, 0, 14]
abbrev dktX1_plot_0 : List UInt8 := dkwX1_plot_0 ++ dktX1_plot_1
theorem dksX1_plot_0 : cX1_plot.data.toList.drop 0 = dktX1_plot_0 := by decide +kernel
theorem dksX1_plot_1 : cX1_plot.data.toList.drop 24 = dktX1_plot_1 := dk_seg dksX1_plot_0 24 rfl rfl
theorem dksX1_plot_2 : cX1_plot.data.toList.drop 47 = dktX1_plot_2 := dk_seg dksX1_plot_1 23 rfl rfl
theorem dksX1_plot_3 : cX1_plot.data.toList.drop 71 = dktX1_plot_3 := dk_seg dksX1_plot_2 24 rfl rfl
theorem dksX1_plot_4 : cX1_plot.data.toList.drop 94 = dktX1_plot_4 := dk_seg dksX1_plot_3 23 rfl rfl
theorem dksX1_plot_5 : cX1_plot.data.toList.drop 118 = dktX1_plot_5 := dk_seg dksX1_plot_4 24 rfl rfl
theorem dX1_plot_0 : decode cX1_plot 0 = .ok (.aload_n 0, 1) := dk_42 (dk_at dksX1_plot_0 0 rfl rfl)
theorem dX1_plot_1 : decode cX1_plot 1 = .ok (.invokevirtual 76, 3) := dk_182 0 76 (dk_at dksX1_plot_0 1 rfl rfl)
theorem dX1_plot_4 : decode cX1_plot 4 = .ok (.aload_n 0, 1) := dk_42 (dk_at dksX1_plot_0 4 rfl rfl)
theorem dX1_plot_5 : decode cX1_plot 5 = .ok (.iload_n 1, 1) := dk_27 (dk_at dksX1_plot_0 5 rfl rfl)
theorem dX1_plot_6 : decode cX1_plot 6 = .ok (.iload_n 2, 1) := dk_28 (dk_at dksX1_plot_0 6 rfl rfl)
theorem dX1_plot_7 : decode cX1_plot 7 = .ok (.invokevirtual 168, 3) := dk_182 0 168 (dk_at dksX1_plot_0 7 rfl rfl)
theorem dX1_plot_10 : decode cX1_plot 10 = .ok (.ifCond .eq 25, 3) := dk_153 0 25 (dk_at dksX1_plot_0 10 rfl rfl)
theorem dX1_plot_13 : decode cX1_plot 13 = .ok (.aload_n 0, 1) := dk_42 (dk_at dksX1_plot_0 13 rfl rfl)
theorem dX1_plot_14 : decode cX1_plot 14 = .ok (.getfield 33, 3) := dk_180 0 33 (dk_at dksX1_plot_0 14 rfl rfl)
theorem dX1_plot_17 : decode cX1_plot 17 = .ok (.iload_n 1, 1) := dk_27 (dk_at dksX1_plot_0 17 rfl rfl)
theorem dX1_plot_18 : decode cX1_plot 18 = .ok (.invokevirtual 130, 3) := dk_182 0 130 (dk_at dksX1_plot_0 18 rfl rfl)
theorem dX1_plot_21 : decode cX1_plot 21 = .ok (.ifCond .eq 14, 3) := dk_153 0 14 (dk_at dksX1_plot_0 21 rfl rfl)
theorem dX1_plot_24 : decode cX1_plot 24 = .ok (.aload_n 0, 1) := dk_42 (dk_at dksX1_plot_1 0 rfl rfl)
theorem dX1_plot_25 : decode cX1_plot 25 = .ok (.getfield 33, 3) := dk_180 0 33 (dk_at dksX1_plot_1 1 rfl rfl)
theorem dX1_plot_28 : decode cX1_plot 28 = .ok (.iload_n 2, 1) := dk_28 (dk_at dksX1_plot_1 4 rfl rfl)
theorem dX1_plot_29 : decode cX1_plot 29 = .ok (.invokevirtual 130, 3) := dk_182 0 130 (dk_at dksX1_plot_1 5 rfl rfl)
theorem dX1_plot_32 : decode cX1_plot 32 = .ok (.ifCond .ne 9, 3) := dk_154 0 9 (dk_at dksX1_plot_1 8 rfl rfl)
theorem dX1_plot_35 : decode cX1_plot 35 = .ok (.aload_n 0, 1) := dk_42 (dk_at dksX1_plot_1 11 rfl rfl)
theorem dX1_plot_36 : decode cX1_plot 36 = .ok (.iconst 1, 1) := dk_4 (dk_at dksX1_plot_1 12 rfl rfl)
theorem dX1_plot_37 : decode cX1_plot 37 = .ok (.invokevirtual 90, 3) := dk_182 0 90 (dk_at dksX1_plot_1 13 rfl rfl)
theorem dX1_plot_40 : decode cX1_plot 40 = .ok (.ireturn, 1) := dk_172 (dk_at dksX1_plot_1 16 rfl rfl)
theorem dX1_plot_41 : decode cX1_plot 41 = .ok (.bipush (-2), 2) := dk_16 254 (dk_at dksX1_plot_1 17 rfl rfl)
theorem dX1_plot_43 : decode cX1_plot 43 = .ok (.istore_n 3, 1) := dk_62 (dk_at dksX1_plot_1 19 rfl rfl)
theorem dX1_plot_44 : decode cX1_plot 44 = .ok (.iconst 0, 1) := dk_3 (dk_at dksX1_plot_1 20 rfl rfl)
theorem dX1_plot_45 : decode cX1_plot 45 = .ok (.istore 4, 2) := dk_54 4 (dk_at dksX1_plot_1 21 rfl rfl)
theorem dX1_plot_47 : decode cX1_plot 47 = .ok (.iload 4, 2) := dk_21 4 (dk_at dksX1_plot_2 0 rfl rfl)
theorem dX1_plot_49 : decode cX1_plot 49 = .ok (.aload_n 0, 1) := dk_42 (dk_at dksX1_plot_2 2 rfl rfl)
theorem dX1_plot_50 : decode cX1_plot 50 = .ok (.getfield 101, 3) := dk_180 0 101 (dk_at dksX1_plot_2 3 rfl rfl)
theorem dX1_plot_53 : decode cX1_plot 53 = .ok (.invokevirtual 133, 3) := dk_182 0 133 (dk_at dksX1_plot_2 6 rfl rfl)
theorem dX1_plot_56 : decode cX1_plot 56 = .ok (.if_icmp .gt 71, 3) := dk_163 0 71 (dk_at dksX1_plot_2 9 rfl rfl)
theorem dX1_plot_59 : decode cX1_plot 59 = .ok (.aload_n 0, 1) := dk_42 (dk_at dksX1_plot_2 12 rfl rfl)
theorem dX1_plot_60 : decode cX1_plot 60 = .ok (.iload 4, 2) := dk_21 4 (dk_at dksX1_plot_2 13 rfl rfl)
theorem dX1_plot_62 : decode cX1_plot 62 = .ok (.invokevirtual 190, 3) := dk_182 0 190 (dk_at dksX1_plot_2 15 rfl rfl)
theorem dX1_plot_65 : decode cX1_plot 65 = .ok (.ifCond .eq 56, 3) := dk_153 0 56 (dk_at dksX1_plot_2 18 rfl rfl)
theorem dX1_plot_68 : decode cX1_plot 68 = .ok (.iload 4, 2) := dk_21 4 (dk_at dksX1_plot_2 21 rfl rfl)
theorem dX1_plot_70 : decode cX1_plot 70 = .ok (.iload_n 1, 1) := dk_27 (dk_at dksX1_plot_2 23 rfl rfl)
theorem dX1_plot_71 : decode cX1_plot 71 = .ok (.invokestatic 193, 3) := dk_184 0 193 (dk_at dksX1_plot_3 0 rfl rfl)
theorem dX1_plot_74 : decode cX1_plot 74 = .ok (.ifCond .eq 47, 3) := dk_153 0 47 (dk_at dksX1_plot_3 3 rfl rfl)
theorem dX1_plot_77 : decode cX1_plot 77 = .ok (.iload 4, 2) := dk_21 4 (dk_at dksX1_plot_3 6 rfl rfl)
theorem dX1_plot_79 : decode cX1_plot 79 = .ok (.iload_n 2, 1) := dk_28 (dk_at dksX1_plot_3 8 rfl rfl)
theorem dX1_plot_80 : decode cX1_plot 80 = .ok (.invokestatic 193, 3) := dk_184 0 193 (dk_at dksX1_plot_3 9 rfl rfl)
theorem dX1_plot_83 : decode cX1_plot 83 = .ok (.ifCond .ne 38, 3) := dk_154 0 38 (dk_at dksX1_plot_3 12 rfl rfl)
theorem dX1_plot_86 : decode cX1_plot 86 = .ok (.iload_n 3, 1) := dk_29 (dk_at dksX1_plot_3 15 rfl rfl)
theorem dX1_plot_87 : decode cX1_plot 87 = .ok (.bipush (-2), 2) := dk_16 254 (dk_at dksX1_plot_3 16 rfl rfl)
theorem dX1_plot_89 : decode cX1_plot 89 = .ok (.if_icmp .eq 15, 3) := dk_159 0 15 (dk_at dksX1_plot_3 18 rfl rfl)
theorem dX1_plot_92 : decode cX1_plot 92 = .ok (.iload 4, 2) := dk_21 4 (dk_at dksX1_plot_3 21 rfl rfl)
theorem dX1_plot_94 : decode cX1_plot 94 = .ok (.invokestatic 205, 3) := dk_184 0 205 (dk_at dksX1_plot_4 0 rfl rfl)
theorem dX1_plot_97 : decode cX1_plot 97 = .ok (.iload_n 3, 1) := dk_29 (dk_at dksX1_plot_4 3 rfl rfl)
theorem dX1_plot_98 : decode cX1_plot 98 = .ok (.invokestatic 205, 3) := dk_184 0 205 (dk_at dksX1_plot_4 4 rfl rfl)
theorem dX1_plot_101 : decode cX1_plot 101 = .ok (.if_icmp .ge 20, 3) := dk_162 0 20 (dk_at dksX1_plot_4 7 rfl rfl)
theorem dX1_plot_104 : decode cX1_plot 104 = .ok (.aload_n 0, 1) := dk_42 (dk_at dksX1_plot_4 10 rfl rfl)
theorem dX1_plot_105 : decode cX1_plot 105 = .ok (.getfield 33, 3) := dk_180 0 33 (dk_at dksX1_plot_4 11 rfl rfl)
theorem dX1_plot_108 : decode cX1_plot 108 = .ok (.iload_n 1, 1) := dk_27 (dk_at dksX1_plot_4 14 rfl rfl)
theorem dX1_plot_109 : decode cX1_plot 109 = .ok (.iload 4, 2) := dk_21 4 (dk_at dksX1_plot_4 15 rfl rfl)
theorem dX1_plot_111 : decode cX1_plot 111 = .ok (.invokevirtual 199, 3) := dk_182 0 199 (dk_at dksX1_plot_4 17 rfl rfl)
theorem dX1_plot_114 : decode cX1_plot 114 = .ok (.iload_n 2, 1) := dk_28 (dk_at dksX1_plot_4 20 rfl rfl)
theorem dX1_plot_115 : decode cX1_plot 115 = .ok (.if_icmp .ne 6, 3) := dk_160 0 6 (dk_at dksX1_plot_4 21 rfl rfl)
theorem dX1_plot_118 : decode cX1_plot 118 = .ok (.iload 4, 2) := dk_21 4 (dk_at dksX1_plot_5 0 rfl rfl)
theorem dX1_plot_120 : decode cX1_plot 120 = .ok (.istore_n 3, 1) := dk_62 (dk_at dksX1_plot_5 2 rfl rfl)
theorem dX1_plot_121 : decode cX1_plot 121 = .ok (.iinc 4 1, 3) := dk_132 4 1 (dk_at dksX1_plot_5 3 rfl rfl)
theorem dX1_plot_124 : decode cX1_plot 124 = .ok (.goto (-77), 3) := dk_167 255 179 (dk_at dksX1_plot_5 6 rfl rfl)
theorem dX1_plot_127 : decode cX1_plot 127 = .ok (.iload_n 3, 1) := dk_29 (dk_at dksX1_plot_5 9 rfl rfl)
theorem dX1_plot_128 : decode cX1_plot 128 = .ok (.ireturn, 1) := dk_172 (dk_at dksX1_plot_5 10 rfl rfl)
abbrev cX1_ones : ByteArray := prog_1_method_3_code
def yX1_ones : MethodName := ⟨RX1, "ones", "(I)I"⟩
def dkwX1_ones_0 : List UInt8 := [3, 60, 26, 61, 28, 153, 0, 15, 132, 1, 1, 28, 28, 4, 100, 126, 61, 167, 255, 243, 27, 172]
abbrev dktX1_ones_0 : List UInt8 := dkwX1_ones_0 ++ []
theorem dksX1_ones_0 : cX1_ones.data.toList.drop 0 = dktX1_ones_0 := by decide +kernel
theorem dX1_ones_0 : decode cX1_ones 0 = .ok (.iconst 0, 1) := dk_3 (dk_at dksX1_ones_0 0 rfl rfl)
theorem dX1_ones_1 : decode cX1_ones 1 = .ok (.istore_n 1, 1) := dk_60 (dk_at dksX1_ones_0 1 rfl rfl)
theorem dX1_ones_2 : decode cX1_ones 2 = .ok (.iload_n 0, 1) := dk_26 (dk_at dksX1_ones_0 2 rfl rfl)
theorem dX1_ones_3 : decode cX1_ones 3 = .ok (.istore_n 2, 1) := dk_61 (dk_at dksX1_ones_0 3 rfl rfl)
theorem dX1_ones_4 : decode cX1_ones 4 = .ok (.iload_n 2, 1) := dk_28 (dk_at dksX1_ones_0 4 rfl rfl)
theorem dX1_ones_5 : decode cX1_ones 5 = .ok (.ifCond .eq 15, 3) := dk_153 0 15 (dk_at dksX1_ones_0 5 rfl rfl)
theorem dX1_ones_8 : decode cX1_ones 8 = .ok (.iinc 1 1, 3) := dk_132 1 1 (dk_at dksX1_ones_0 8 rfl rfl)
theorem dX1_ones_11 : decode cX1_ones 11 = .ok (.iload_n 2, 1) := dk_28 (dk_at dksX1_ones_0 11 rfl rfl)
theorem dX1_ones_12 : decode cX1_ones 12 = .ok (.iload_n 2, 1) := dk_28 (dk_at dksX1_ones_0 12 rfl rfl)
theorem dX1_ones_13 : decode cX1_ones 13 = .ok (.iconst 1, 1) := dk_4 (dk_at dksX1_ones_0 13 rfl rfl)
theorem dX1_ones_14 : decode cX1_ones 14 = .ok (.isub, 1) := dk_100 (dk_at dksX1_ones_0 14 rfl rfl)
theorem dX1_ones_15 : decode cX1_ones 15 = .ok (.iand, 1) := dk_126 (dk_at dksX1_ones_0 15 rfl rfl)
theorem dX1_ones_16 : decode cX1_ones 16 = .ok (.istore_n 2, 1) := dk_61 (dk_at dksX1_ones_0 16 rfl rfl)
theorem dX1_ones_17 : decode cX1_ones 17 = .ok (.goto (-13), 3) := dk_167 255 243 (dk_at dksX1_ones_0 17 rfl rfl)
theorem dX1_ones_20 : decode cX1_ones 20 = .ok (.iload_n 1, 1) := dk_27 (dk_at dksX1_ones_0 20 rfl rfl)
theorem dX1_ones_21 : decode cX1_ones 21 = .ok (.ireturn, 1) := dk_172 (dk_at dksX1_ones_0 21 rfl rfl)
abbrev cX1_mean : ByteArray := prog_1_method_37_code
def yX1_mean : MethodName := ⟨RX1, "mean", "(IZ)J"⟩
def dkwX1_mean_1 : List UInt8 := [180, 0, 33, 27, 182, 0, 208, 66, 33, 42, 180, 0, 46, 180, 0, 212, 28, 184, 0, 215, 173]
abbrev dktX1_mean_1 : List UInt8 := dkwX1_mean_1 ++ []
def dkwX1_mean_0 : List UInt8 := [42, 182, 0, 76, 42, 27, 182, 0, 126, 154, 0, 10, 42, 4, 182, 0, 90, 133, 173, 42, 180, 0, 46, 42]
abbrev dktX1_mean_0 : List UInt8 := dkwX1_mean_0 ++ dktX1_mean_1
theorem dksX1_mean_0 : cX1_mean.data.toList.drop 0 = dktX1_mean_0 := by decide +kernel
theorem dksX1_mean_1 : cX1_mean.data.toList.drop 24 = dktX1_mean_1 := dk_seg dksX1_mean_0 24 rfl rfl
theorem dX1_mean_0 : decode cX1_mean 0 = .ok (.aload_n 0, 1) := dk_42 (dk_at dksX1_mean_0 0 rfl rfl)
theorem dX1_mean_1 : decode cX1_mean 1 = .ok (.invokevirtual 76, 3) := dk_182 0 76 (dk_at dksX1_mean_0 1 rfl rfl)
theorem dX1_mean_4 : decode cX1_mean 4 = .ok (.aload_n 0, 1) := dk_42 (dk_at dksX1_mean_0 4 rfl rfl)
theorem dX1_mean_5 : decode cX1_mean 5 = .ok (.iload_n 1, 1) := dk_27 (dk_at dksX1_mean_0 5 rfl rfl)
theorem dX1_mean_6 : decode cX1_mean 6 = .ok (.invokevirtual 126, 3) := dk_182 0 126 (dk_at dksX1_mean_0 6 rfl rfl)
theorem dX1_mean_9 : decode cX1_mean 9 = .ok (.ifCond .ne 10, 3) := dk_154 0 10 (dk_at dksX1_mean_0 9 rfl rfl)
theorem dX1_mean_12 : decode cX1_mean 12 = .ok (.aload_n 0, 1) := dk_42 (dk_at dksX1_mean_0 12 rfl rfl)
theorem dX1_mean_13 : decode cX1_mean 13 = .ok (.iconst 1, 1) := dk_4 (dk_at dksX1_mean_0 13 rfl rfl)
theorem dX1_mean_14 : decode cX1_mean 14 = .ok (.invokevirtual 90, 3) := dk_182 0 90 (dk_at dksX1_mean_0 14 rfl rfl)
theorem dX1_mean_17 : decode cX1_mean 17 = .ok (.i2l, 1) := dk_133 (dk_at dksX1_mean_0 17 rfl rfl)
theorem dX1_mean_18 : decode cX1_mean 18 = .ok (.lreturn, 1) := dk_173 (dk_at dksX1_mean_0 18 rfl rfl)
theorem dX1_mean_19 : decode cX1_mean 19 = .ok (.aload_n 0, 1) := dk_42 (dk_at dksX1_mean_0 19 rfl rfl)
theorem dX1_mean_20 : decode cX1_mean 20 = .ok (.getfield 46, 3) := dk_180 0 46 (dk_at dksX1_mean_0 20 rfl rfl)
theorem dX1_mean_23 : decode cX1_mean 23 = .ok (.aload_n 0, 1) := dk_42 (dk_at dksX1_mean_0 23 rfl rfl)
theorem dX1_mean_24 : decode cX1_mean 24 = .ok (.getfield 33, 3) := dk_180 0 33 (dk_at dksX1_mean_1 0 rfl rfl)
theorem dX1_mean_27 : decode cX1_mean 27 = .ok (.iload_n 1, 1) := dk_27 (dk_at dksX1_mean_1 3 rfl rfl)
theorem dX1_mean_28 : decode cX1_mean 28 = .ok (.invokevirtual 208, 3) := dk_182 0 208 (dk_at dksX1_mean_1 4 rfl rfl)
theorem dX1_mean_31 : decode cX1_mean 31 = .ok (.lstore_n 3, 1) := dk_66 (dk_at dksX1_mean_1 7 rfl rfl)
theorem dX1_mean_32 : decode cX1_mean 32 = .ok (.lload_n 3, 1) := dk_33 (dk_at dksX1_mean_1 8 rfl rfl)
theorem dX1_mean_33 : decode cX1_mean 33 = .ok (.aload_n 0, 1) := dk_42 (dk_at dksX1_mean_1 9 rfl rfl)
theorem dX1_mean_34 : decode cX1_mean 34 = .ok (.getfield 46, 3) := dk_180 0 46 (dk_at dksX1_mean_1 10 rfl rfl)
theorem dX1_mean_37 : decode cX1_mean 37 = .ok (.getfield 212, 3) := dk_180 0 212 (dk_at dksX1_mean_1 13 rfl rfl)
theorem dX1_mean_40 : decode cX1_mean 40 = .ok (.iload_n 2, 1) := dk_28 (dk_at dksX1_mean_1 16 rfl rfl)
theorem dX1_mean_41 : decode cX1_mean 41 = .ok (.invokestatic 215, 3) := dk_184 0 215 (dk_at dksX1_mean_1 17 rfl rfl)
theorem dX1_mean_44 : decode cX1_mean 44 = .ok (.lreturn, 1) := dk_173 (dk_at dksX1_mean_1 20 rfl rfl)
abbrev cX1_lowest : ByteArray := prog_1_method_5_code
def yX1_lowest : MethodName := ⟨RX1, "lowest", "(JJZ)J"⟩
def dkwX1_lowest_0 : List UInt8 := [21, 4, 153, 0, 7, 32, 167, 0, 4, 30, 32, 30, 184, 0, 1, 109, 173]
abbrev dktX1_lowest_0 : List UInt8 := dkwX1_lowest_0 ++ []
theorem dksX1_lowest_0 : cX1_lowest.data.toList.drop 0 = dktX1_lowest_0 := by decide +kernel
theorem dX1_lowest_0 : decode cX1_lowest 0 = .ok (.iload 4, 2) := dk_21 4 (dk_at dksX1_lowest_0 0 rfl rfl)
theorem dX1_lowest_2 : decode cX1_lowest 2 = .ok (.ifCond .eq 7, 3) := dk_153 0 7 (dk_at dksX1_lowest_0 2 rfl rfl)
theorem dX1_lowest_5 : decode cX1_lowest 5 = .ok (.lload_n 2, 1) := dk_32 (dk_at dksX1_lowest_0 5 rfl rfl)
theorem dX1_lowest_6 : decode cX1_lowest 6 = .ok (.goto 4, 3) := dk_167 0 4 (dk_at dksX1_lowest_0 6 rfl rfl)
theorem dX1_lowest_9 : decode cX1_lowest 9 = .ok (.lload_n 0, 1) := dk_30 (dk_at dksX1_lowest_0 9 rfl rfl)
theorem dX1_lowest_10 : decode cX1_lowest 10 = .ok (.lload_n 2, 1) := dk_32 (dk_at dksX1_lowest_0 10 rfl rfl)
theorem dX1_lowest_11 : decode cX1_lowest 11 = .ok (.lload_n 0, 1) := dk_30 (dk_at dksX1_lowest_0 11 rfl rfl)
theorem dX1_lowest_12 : decode cX1_lowest 12 = .ok (.invokestatic 1, 3) := dk_184 0 1 (dk_at dksX1_lowest_0 12 rfl rfl)
theorem dX1_lowest_15 : decode cX1_lowest 15 = .ok (.ldiv, 1) := dk_109 (dk_at dksX1_lowest_0 15 rfl rfl)
theorem dX1_lowest_16 : decode cX1_lowest 16 = .ok (.lreturn, 1) := dk_173 (dk_at dksX1_lowest_0 16 rfl rfl)
abbrev cX1_dividing : ByteArray := prog_1_method_4_code
def yX1_dividing : MethodName := ⟨RX1, "dividing", "(JJ)J"⟩
def dkwX1_dividing_0 : List UInt8 := [32, 9, 148, 154, 0, 7, 30, 167, 0, 10, 32, 30, 32, 113, 184, 0, 1, 173]
abbrev dktX1_dividing_0 : List UInt8 := dkwX1_dividing_0 ++ []
theorem dksX1_dividing_0 : cX1_dividing.data.toList.drop 0 = dktX1_dividing_0 := by decide +kernel
theorem dX1_dividing_0 : decode cX1_dividing 0 = .ok (.lload_n 2, 1) := dk_32 (dk_at dksX1_dividing_0 0 rfl rfl)
theorem dX1_dividing_1 : decode cX1_dividing 1 = .ok (.lconst 0, 1) := dk_9 (dk_at dksX1_dividing_0 1 rfl rfl)
theorem dX1_dividing_2 : decode cX1_dividing 2 = .ok (.lcmp, 1) := dk_148 (dk_at dksX1_dividing_0 2 rfl rfl)
theorem dX1_dividing_3 : decode cX1_dividing 3 = .ok (.ifCond .ne 7, 3) := dk_154 0 7 (dk_at dksX1_dividing_0 3 rfl rfl)
theorem dX1_dividing_6 : decode cX1_dividing 6 = .ok (.lload_n 0, 1) := dk_30 (dk_at dksX1_dividing_0 6 rfl rfl)
theorem dX1_dividing_7 : decode cX1_dividing 7 = .ok (.goto 10, 3) := dk_167 0 10 (dk_at dksX1_dividing_0 7 rfl rfl)
theorem dX1_dividing_10 : decode cX1_dividing 10 = .ok (.lload_n 2, 1) := dk_32 (dk_at dksX1_dividing_0 10 rfl rfl)
theorem dX1_dividing_11 : decode cX1_dividing 11 = .ok (.lload_n 0, 1) := dk_30 (dk_at dksX1_dividing_0 11 rfl rfl)
theorem dX1_dividing_12 : decode cX1_dividing 12 = .ok (.lload_n 2, 1) := dk_32 (dk_at dksX1_dividing_0 12 rfl rfl)
theorem dX1_dividing_13 : decode cX1_dividing 13 = .ok (.lrem, 1) := dk_113 (dk_at dksX1_dividing_0 13 rfl rfl)
theorem dX1_dividing_14 : decode cX1_dividing 14 = .ok (.invokestatic 1, 3) := dk_184 0 1 (dk_at dksX1_dividing_0 14 rfl rfl)
theorem dX1_dividing_17 : decode cX1_dividing 17 = .ok (.lreturn, 1) := dk_173 (dk_at dksX1_dividing_0 17 rfl rfl)
abbrev cX1_odds : ByteArray := prog_1_method_38_code
def yX1_odds : MethodName := ⟨RX1, "odds", "(IIZ)J"⟩
def dkwX1_odds_2 : List UInt8 := [182, 0, 219, 55, 5, 22, 5, 42, 180, 0, 46, 180, 0, 212, 29, 184, 0, 215, 173]
abbrev dktX1_odds_2 : List UInt8 := dkwX1_odds_2 ++ []
def dkwX1_odds_1 : List UInt8 := [21, 4, 153, 0, 11, 42, 21, 4, 182, 0, 90, 133, 173, 42, 180, 0, 46, 42, 180, 0, 33, 27, 28]
abbrev dktX1_odds_1 : List UInt8 := dkwX1_odds_1 ++ dktX1_odds_2
def dkwX1_odds_0 : List UInt8 := [42, 182, 0, 76, 42, 42, 27, 182, 0, 126, 28, 3, 17, 2, 82, 184, 0, 86, 182, 0, 195, 54, 4]
abbrev dktX1_odds_0 : List UInt8 := dkwX1_odds_0 ++ dktX1_odds_1
theorem dksX1_odds_0 : cX1_odds.data.toList.drop 0 = dktX1_odds_0 := by decide +kernel
theorem dksX1_odds_1 : cX1_odds.data.toList.drop 23 = dktX1_odds_1 := dk_seg dksX1_odds_0 23 rfl rfl
theorem dksX1_odds_2 : cX1_odds.data.toList.drop 46 = dktX1_odds_2 := dk_seg dksX1_odds_1 23 rfl rfl
theorem dX1_odds_0 : decode cX1_odds 0 = .ok (.aload_n 0, 1) := dk_42 (dk_at dksX1_odds_0 0 rfl rfl)
theorem dX1_odds_1 : decode cX1_odds 1 = .ok (.invokevirtual 76, 3) := dk_182 0 76 (dk_at dksX1_odds_0 1 rfl rfl)
theorem dX1_odds_4 : decode cX1_odds 4 = .ok (.aload_n 0, 1) := dk_42 (dk_at dksX1_odds_0 4 rfl rfl)
theorem dX1_odds_5 : decode cX1_odds 5 = .ok (.aload_n 0, 1) := dk_42 (dk_at dksX1_odds_0 5 rfl rfl)
theorem dX1_odds_6 : decode cX1_odds 6 = .ok (.iload_n 1, 1) := dk_27 (dk_at dksX1_odds_0 6 rfl rfl)
theorem dX1_odds_7 : decode cX1_odds 7 = .ok (.invokevirtual 126, 3) := dk_182 0 126 (dk_at dksX1_odds_0 7 rfl rfl)
theorem dX1_odds_10 : decode cX1_odds 10 = .ok (.iload_n 2, 1) := dk_28 (dk_at dksX1_odds_0 10 rfl rfl)
theorem dX1_odds_11 : decode cX1_odds 11 = .ok (.iconst 0, 1) := dk_3 (dk_at dksX1_odds_0 11 rfl rfl)
theorem dX1_odds_12 : decode cX1_odds 12 = .ok (.sipush 594, 3) := dk_17 2 82 (dk_at dksX1_odds_0 12 rfl rfl)
theorem dX1_odds_15 : decode cX1_odds 15 = .ok (.invokestatic 86, 3) := dk_184 0 86 (dk_at dksX1_odds_0 15 rfl rfl)
theorem dX1_odds_18 : decode cX1_odds 18 = .ok (.invokevirtual 195, 3) := dk_182 0 195 (dk_at dksX1_odds_0 18 rfl rfl)
theorem dX1_odds_21 : decode cX1_odds 21 = .ok (.istore 4, 2) := dk_54 4 (dk_at dksX1_odds_0 21 rfl rfl)
theorem dX1_odds_23 : decode cX1_odds 23 = .ok (.iload 4, 2) := dk_21 4 (dk_at dksX1_odds_1 0 rfl rfl)
theorem dX1_odds_25 : decode cX1_odds 25 = .ok (.ifCond .eq 11, 3) := dk_153 0 11 (dk_at dksX1_odds_1 2 rfl rfl)
theorem dX1_odds_28 : decode cX1_odds 28 = .ok (.aload_n 0, 1) := dk_42 (dk_at dksX1_odds_1 5 rfl rfl)
theorem dX1_odds_29 : decode cX1_odds 29 = .ok (.iload 4, 2) := dk_21 4 (dk_at dksX1_odds_1 6 rfl rfl)
theorem dX1_odds_31 : decode cX1_odds 31 = .ok (.invokevirtual 90, 3) := dk_182 0 90 (dk_at dksX1_odds_1 8 rfl rfl)
theorem dX1_odds_34 : decode cX1_odds 34 = .ok (.i2l, 1) := dk_133 (dk_at dksX1_odds_1 11 rfl rfl)
theorem dX1_odds_35 : decode cX1_odds 35 = .ok (.lreturn, 1) := dk_173 (dk_at dksX1_odds_1 12 rfl rfl)
theorem dX1_odds_36 : decode cX1_odds 36 = .ok (.aload_n 0, 1) := dk_42 (dk_at dksX1_odds_1 13 rfl rfl)
theorem dX1_odds_37 : decode cX1_odds 37 = .ok (.getfield 46, 3) := dk_180 0 46 (dk_at dksX1_odds_1 14 rfl rfl)
theorem dX1_odds_40 : decode cX1_odds 40 = .ok (.aload_n 0, 1) := dk_42 (dk_at dksX1_odds_1 17 rfl rfl)
theorem dX1_odds_41 : decode cX1_odds 41 = .ok (.getfield 33, 3) := dk_180 0 33 (dk_at dksX1_odds_1 18 rfl rfl)
theorem dX1_odds_44 : decode cX1_odds 44 = .ok (.iload_n 1, 1) := dk_27 (dk_at dksX1_odds_1 21 rfl rfl)
theorem dX1_odds_45 : decode cX1_odds 45 = .ok (.iload_n 2, 1) := dk_28 (dk_at dksX1_odds_1 22 rfl rfl)
theorem dX1_odds_46 : decode cX1_odds 46 = .ok (.invokevirtual 219, 3) := dk_182 0 219 (dk_at dksX1_odds_2 0 rfl rfl)
theorem dX1_odds_49 : decode cX1_odds 49 = .ok (.lstore 5, 2) := dk_55 5 (dk_at dksX1_odds_2 3 rfl rfl)
theorem dX1_odds_51 : decode cX1_odds 51 = .ok (.lload 5, 2) := dk_22 5 (dk_at dksX1_odds_2 5 rfl rfl)
theorem dX1_odds_53 : decode cX1_odds 53 = .ok (.aload_n 0, 1) := dk_42 (dk_at dksX1_odds_2 7 rfl rfl)
theorem dX1_odds_54 : decode cX1_odds 54 = .ok (.getfield 46, 3) := dk_180 0 46 (dk_at dksX1_odds_2 8 rfl rfl)
theorem dX1_odds_57 : decode cX1_odds 57 = .ok (.getfield 212, 3) := dk_180 0 212 (dk_at dksX1_odds_2 11 rfl rfl)
theorem dX1_odds_60 : decode cX1_odds 60 = .ok (.iload_n 3, 1) := dk_29 (dk_at dksX1_odds_2 14 rfl rfl)
theorem dX1_odds_61 : decode cX1_odds 61 = .ok (.invokestatic 215, 3) := dk_184 0 215 (dk_at dksX1_odds_2 15 rfl rfl)
theorem dX1_odds_64 : decode cX1_odds 64 = .ok (.lreturn, 1) := dk_173 (dk_at dksX1_odds_2 18 rfl rfl)
abbrev cX1_passes : ByteArray := prog_1_method_39_code
def yX1_passes : MethodName := ⟨RX1, "passes", "(IIZ)J"⟩
def dkwX1_passes_2 : List UInt8 := [173]
abbrev dktX1_passes_2 : List UInt8 := dkwX1_passes_2 ++ []
def dkwX1_passes_1 : List UInt8 := [42, 180, 0, 33, 27, 28, 182, 0, 223, 55, 4, 22, 4, 42, 180, 0, 46, 180, 0, 212, 29, 184, 0, 215]
abbrev dktX1_passes_1 : List UInt8 := dkwX1_passes_1 ++ dktX1_passes_2
def dkwX1_passes_0 : List UInt8 := [42, 182, 0, 76, 42, 27, 28, 182, 0, 168, 154, 0, 10, 42, 4, 182, 0, 90, 133, 173, 42, 180, 0, 46]
abbrev dktX1_passes_0 : List UInt8 := dkwX1_passes_0 ++ dktX1_passes_1
theorem dksX1_passes_0 : cX1_passes.data.toList.drop 0 = dktX1_passes_0 := by decide +kernel
theorem dksX1_passes_1 : cX1_passes.data.toList.drop 24 = dktX1_passes_1 := dk_seg dksX1_passes_0 24 rfl rfl
theorem dksX1_passes_2 : cX1_passes.data.toList.drop 48 = dktX1_passes_2 := dk_seg dksX1_passes_1 24 rfl rfl
theorem dX1_passes_0 : decode cX1_passes 0 = .ok (.aload_n 0, 1) := dk_42 (dk_at dksX1_passes_0 0 rfl rfl)
theorem dX1_passes_1 : decode cX1_passes 1 = .ok (.invokevirtual 76, 3) := dk_182 0 76 (dk_at dksX1_passes_0 1 rfl rfl)
theorem dX1_passes_4 : decode cX1_passes 4 = .ok (.aload_n 0, 1) := dk_42 (dk_at dksX1_passes_0 4 rfl rfl)
theorem dX1_passes_5 : decode cX1_passes 5 = .ok (.iload_n 1, 1) := dk_27 (dk_at dksX1_passes_0 5 rfl rfl)
theorem dX1_passes_6 : decode cX1_passes 6 = .ok (.iload_n 2, 1) := dk_28 (dk_at dksX1_passes_0 6 rfl rfl)
theorem dX1_passes_7 : decode cX1_passes 7 = .ok (.invokevirtual 168, 3) := dk_182 0 168 (dk_at dksX1_passes_0 7 rfl rfl)
theorem dX1_passes_10 : decode cX1_passes 10 = .ok (.ifCond .ne 10, 3) := dk_154 0 10 (dk_at dksX1_passes_0 10 rfl rfl)
theorem dX1_passes_13 : decode cX1_passes 13 = .ok (.aload_n 0, 1) := dk_42 (dk_at dksX1_passes_0 13 rfl rfl)
theorem dX1_passes_14 : decode cX1_passes 14 = .ok (.iconst 1, 1) := dk_4 (dk_at dksX1_passes_0 14 rfl rfl)
theorem dX1_passes_15 : decode cX1_passes 15 = .ok (.invokevirtual 90, 3) := dk_182 0 90 (dk_at dksX1_passes_0 15 rfl rfl)
theorem dX1_passes_18 : decode cX1_passes 18 = .ok (.i2l, 1) := dk_133 (dk_at dksX1_passes_0 18 rfl rfl)
theorem dX1_passes_19 : decode cX1_passes 19 = .ok (.lreturn, 1) := dk_173 (dk_at dksX1_passes_0 19 rfl rfl)
theorem dX1_passes_20 : decode cX1_passes 20 = .ok (.aload_n 0, 1) := dk_42 (dk_at dksX1_passes_0 20 rfl rfl)
theorem dX1_passes_21 : decode cX1_passes 21 = .ok (.getfield 46, 3) := dk_180 0 46 (dk_at dksX1_passes_0 21 rfl rfl)
theorem dX1_passes_24 : decode cX1_passes 24 = .ok (.aload_n 0, 1) := dk_42 (dk_at dksX1_passes_1 0 rfl rfl)
theorem dX1_passes_25 : decode cX1_passes 25 = .ok (.getfield 33, 3) := dk_180 0 33 (dk_at dksX1_passes_1 1 rfl rfl)
theorem dX1_passes_28 : decode cX1_passes 28 = .ok (.iload_n 1, 1) := dk_27 (dk_at dksX1_passes_1 4 rfl rfl)
theorem dX1_passes_29 : decode cX1_passes 29 = .ok (.iload_n 2, 1) := dk_28 (dk_at dksX1_passes_1 5 rfl rfl)
theorem dX1_passes_30 : decode cX1_passes 30 = .ok (.invokevirtual 223, 3) := dk_182 0 223 (dk_at dksX1_passes_1 6 rfl rfl)
theorem dX1_passes_33 : decode cX1_passes 33 = .ok (.lstore 4, 2) := dk_55 4 (dk_at dksX1_passes_1 9 rfl rfl)
theorem dX1_passes_35 : decode cX1_passes 35 = .ok (.lload 4, 2) := dk_22 4 (dk_at dksX1_passes_1 11 rfl rfl)
theorem dX1_passes_37 : decode cX1_passes 37 = .ok (.aload_n 0, 1) := dk_42 (dk_at dksX1_passes_1 13 rfl rfl)
theorem dX1_passes_38 : decode cX1_passes 38 = .ok (.getfield 46, 3) := dk_180 0 46 (dk_at dksX1_passes_1 14 rfl rfl)
theorem dX1_passes_41 : decode cX1_passes 41 = .ok (.getfield 212, 3) := dk_180 0 212 (dk_at dksX1_passes_1 17 rfl rfl)
theorem dX1_passes_44 : decode cX1_passes 44 = .ok (.iload_n 3, 1) := dk_29 (dk_at dksX1_passes_1 20 rfl rfl)
theorem dX1_passes_45 : decode cX1_passes 45 = .ok (.invokestatic 215, 3) := dk_184 0 215 (dk_at dksX1_passes_1 21 rfl rfl)
theorem dX1_passes_48 : decode cX1_passes 48 = .ok (.lreturn, 1) := dk_173 (dk_at dksX1_passes_2 0 rfl rfl)
abbrev cX1_catMean : ByteArray := prog_1_method_40_code
def yX1_catMean : MethodName := ⟨RX1, "catMean", "(Z)J"⟩
def dkwX1_catMean_1 : List UInt8 := [180, 0, 33, 2, 182, 0, 208, 65, 32, 42, 180, 0, 46, 180, 0, 212, 27, 184, 0, 215, 173]
abbrev dktX1_catMean_1 : List UInt8 := dkwX1_catMean_1 ++ []
def dkwX1_catMean_0 : List UInt8 := [42, 182, 0, 76, 42, 180, 0, 101, 199, 0, 10, 42, 4, 182, 0, 90, 133, 173, 42, 180, 0, 46, 42]
abbrev dktX1_catMean_0 : List UInt8 := dkwX1_catMean_0 ++ dktX1_catMean_1
theorem dksX1_catMean_0 : cX1_catMean.data.toList.drop 0 = dktX1_catMean_0 := by decide +kernel
theorem dksX1_catMean_1 : cX1_catMean.data.toList.drop 23 = dktX1_catMean_1 := dk_seg dksX1_catMean_0 23 rfl rfl
theorem dX1_catMean_0 : decode cX1_catMean 0 = .ok (.aload_n 0, 1) := dk_42 (dk_at dksX1_catMean_0 0 rfl rfl)
theorem dX1_catMean_1 : decode cX1_catMean 1 = .ok (.invokevirtual 76, 3) := dk_182 0 76 (dk_at dksX1_catMean_0 1 rfl rfl)
theorem dX1_catMean_4 : decode cX1_catMean 4 = .ok (.aload_n 0, 1) := dk_42 (dk_at dksX1_catMean_0 4 rfl rfl)
theorem dX1_catMean_5 : decode cX1_catMean 5 = .ok (.getfield 101, 3) := dk_180 0 101 (dk_at dksX1_catMean_0 5 rfl rfl)
theorem dX1_catMean_8 : decode cX1_catMean 8 = .ok (.ifnonnull 10, 3) := dk_199 0 10 (dk_at dksX1_catMean_0 8 rfl rfl)
theorem dX1_catMean_11 : decode cX1_catMean 11 = .ok (.aload_n 0, 1) := dk_42 (dk_at dksX1_catMean_0 11 rfl rfl)
theorem dX1_catMean_12 : decode cX1_catMean 12 = .ok (.iconst 1, 1) := dk_4 (dk_at dksX1_catMean_0 12 rfl rfl)
theorem dX1_catMean_13 : decode cX1_catMean 13 = .ok (.invokevirtual 90, 3) := dk_182 0 90 (dk_at dksX1_catMean_0 13 rfl rfl)
theorem dX1_catMean_16 : decode cX1_catMean 16 = .ok (.i2l, 1) := dk_133 (dk_at dksX1_catMean_0 16 rfl rfl)
theorem dX1_catMean_17 : decode cX1_catMean 17 = .ok (.lreturn, 1) := dk_173 (dk_at dksX1_catMean_0 17 rfl rfl)
theorem dX1_catMean_18 : decode cX1_catMean 18 = .ok (.aload_n 0, 1) := dk_42 (dk_at dksX1_catMean_0 18 rfl rfl)
theorem dX1_catMean_19 : decode cX1_catMean 19 = .ok (.getfield 46, 3) := dk_180 0 46 (dk_at dksX1_catMean_0 19 rfl rfl)
theorem dX1_catMean_22 : decode cX1_catMean 22 = .ok (.aload_n 0, 1) := dk_42 (dk_at dksX1_catMean_0 22 rfl rfl)
theorem dX1_catMean_23 : decode cX1_catMean 23 = .ok (.getfield 33, 3) := dk_180 0 33 (dk_at dksX1_catMean_1 0 rfl rfl)
theorem dX1_catMean_26 : decode cX1_catMean 26 = .ok (.iconst (-1), 1) := dk_2 (dk_at dksX1_catMean_1 3 rfl rfl)
theorem dX1_catMean_27 : decode cX1_catMean 27 = .ok (.invokevirtual 208, 3) := dk_182 0 208 (dk_at dksX1_catMean_1 4 rfl rfl)
theorem dX1_catMean_30 : decode cX1_catMean 30 = .ok (.lstore_n 2, 1) := dk_65 (dk_at dksX1_catMean_1 7 rfl rfl)
theorem dX1_catMean_31 : decode cX1_catMean 31 = .ok (.lload_n 2, 1) := dk_32 (dk_at dksX1_catMean_1 8 rfl rfl)
theorem dX1_catMean_32 : decode cX1_catMean 32 = .ok (.aload_n 0, 1) := dk_42 (dk_at dksX1_catMean_1 9 rfl rfl)
theorem dX1_catMean_33 : decode cX1_catMean 33 = .ok (.getfield 46, 3) := dk_180 0 46 (dk_at dksX1_catMean_1 10 rfl rfl)
theorem dX1_catMean_36 : decode cX1_catMean 36 = .ok (.getfield 212, 3) := dk_180 0 212 (dk_at dksX1_catMean_1 13 rfl rfl)
theorem dX1_catMean_39 : decode cX1_catMean 39 = .ok (.iload_n 1, 1) := dk_27 (dk_at dksX1_catMean_1 16 rfl rfl)
theorem dX1_catMean_40 : decode cX1_catMean 40 = .ok (.invokestatic 215, 3) := dk_184 0 215 (dk_at dksX1_catMean_1 17 rfl rfl)
theorem dX1_catMean_43 : decode cX1_catMean 43 = .ok (.lreturn, 1) := dk_173 (dk_at dksX1_catMean_1 20 rfl rfl)
abbrev cX1_best : ByteArray := prog_1_method_42_code
def yX1_best : MethodName := ⟨RX1, "best", "(II)I"⟩
def dkwX1_best_1 : List UInt8 := [182, 0, 90, 167, 0, 19, 42, 180, 0, 55, 42, 180, 0, 33, 27, 28, 182, 0, 230, 180, 0, 234, 172]
abbrev dktX1_best_1 : List UInt8 := dkwX1_best_1 ++ []
def dkwX1_best_0 : List UInt8 := [42, 182, 0, 76, 42, 27, 28, 4, 6, 184, 0, 86, 182, 0, 226, 62, 29, 153, 0, 11, 42, 29]
abbrev dktX1_best_0 : List UInt8 := dkwX1_best_0 ++ dktX1_best_1
theorem dksX1_best_0 : cX1_best.data.toList.drop 0 = dktX1_best_0 := by decide +kernel
theorem dksX1_best_1 : cX1_best.data.toList.drop 22 = dktX1_best_1 := dk_seg dksX1_best_0 22 rfl rfl
theorem dX1_best_0 : decode cX1_best 0 = .ok (.aload_n 0, 1) := dk_42 (dk_at dksX1_best_0 0 rfl rfl)
theorem dX1_best_1 : decode cX1_best 1 = .ok (.invokevirtual 76, 3) := dk_182 0 76 (dk_at dksX1_best_0 1 rfl rfl)
theorem dX1_best_4 : decode cX1_best 4 = .ok (.aload_n 0, 1) := dk_42 (dk_at dksX1_best_0 4 rfl rfl)
theorem dX1_best_5 : decode cX1_best 5 = .ok (.iload_n 1, 1) := dk_27 (dk_at dksX1_best_0 5 rfl rfl)
theorem dX1_best_6 : decode cX1_best 6 = .ok (.iload_n 2, 1) := dk_28 (dk_at dksX1_best_0 6 rfl rfl)
theorem dX1_best_7 : decode cX1_best 7 = .ok (.iconst 1, 1) := dk_4 (dk_at dksX1_best_0 7 rfl rfl)
theorem dX1_best_8 : decode cX1_best 8 = .ok (.iconst 3, 1) := dk_6 (dk_at dksX1_best_0 8 rfl rfl)
theorem dX1_best_9 : decode cX1_best 9 = .ok (.invokestatic 86, 3) := dk_184 0 86 (dk_at dksX1_best_0 9 rfl rfl)
theorem dX1_best_12 : decode cX1_best 12 = .ok (.invokevirtual 226, 3) := dk_182 0 226 (dk_at dksX1_best_0 12 rfl rfl)
theorem dX1_best_15 : decode cX1_best 15 = .ok (.istore_n 3, 1) := dk_62 (dk_at dksX1_best_0 15 rfl rfl)
theorem dX1_best_16 : decode cX1_best 16 = .ok (.iload_n 3, 1) := dk_29 (dk_at dksX1_best_0 16 rfl rfl)
theorem dX1_best_17 : decode cX1_best 17 = .ok (.ifCond .eq 11, 3) := dk_153 0 11 (dk_at dksX1_best_0 17 rfl rfl)
theorem dX1_best_20 : decode cX1_best 20 = .ok (.aload_n 0, 1) := dk_42 (dk_at dksX1_best_0 20 rfl rfl)
theorem dX1_best_21 : decode cX1_best 21 = .ok (.iload_n 3, 1) := dk_29 (dk_at dksX1_best_0 21 rfl rfl)
theorem dX1_best_22 : decode cX1_best 22 = .ok (.invokevirtual 90, 3) := dk_182 0 90 (dk_at dksX1_best_1 0 rfl rfl)
theorem dX1_best_25 : decode cX1_best 25 = .ok (.goto 19, 3) := dk_167 0 19 (dk_at dksX1_best_1 3 rfl rfl)
theorem dX1_best_28 : decode cX1_best 28 = .ok (.aload_n 0, 1) := dk_42 (dk_at dksX1_best_1 6 rfl rfl)
theorem dX1_best_29 : decode cX1_best 29 = .ok (.getfield 55, 3) := dk_180 0 55 (dk_at dksX1_best_1 7 rfl rfl)
theorem dX1_best_32 : decode cX1_best 32 = .ok (.aload_n 0, 1) := dk_42 (dk_at dksX1_best_1 10 rfl rfl)
theorem dX1_best_33 : decode cX1_best 33 = .ok (.getfield 33, 3) := dk_180 0 33 (dk_at dksX1_best_1 11 rfl rfl)
theorem dX1_best_36 : decode cX1_best 36 = .ok (.iload_n 1, 1) := dk_27 (dk_at dksX1_best_1 14 rfl rfl)
theorem dX1_best_37 : decode cX1_best 37 = .ok (.iload_n 2, 1) := dk_28 (dk_at dksX1_best_1 15 rfl rfl)
theorem dX1_best_38 : decode cX1_best 38 = .ok (.invokevirtual 230, 3) := dk_182 0 230 (dk_at dksX1_best_1 16 rfl rfl)
theorem dX1_best_41 : decode cX1_best 41 = .ok (.getfield 234, 3) := dk_180 0 234 (dk_at dksX1_best_1 19 rfl rfl)
theorem dX1_best_44 : decode cX1_best 44 = .ok (.ireturn, 1) := dk_172 (dk_at dksX1_best_1 22 rfl rfl)
abbrev cX1_planWhy : ByteArray := prog_1_method_41_code
def yX1_planWhy : MethodName := ⟨RX1, "planWhy", "(IZ)I"⟩
def dkwX1_planWhy_1 : List UInt8 := [27, 182, 0, 130, 153, 0, 7, 3, 167, 0, 4, 8, 172]
abbrev dktX1_planWhy_1 : List UInt8 := dkwX1_planWhy_1 ++ []
def dkwX1_planWhy_0 : List UInt8 := [42, 27, 182, 0, 126, 154, 0, 7, 4, 167, 0, 27, 28, 154, 0, 7, 5, 167, 0, 19, 42, 180, 0, 33]
abbrev dktX1_planWhy_0 : List UInt8 := dkwX1_planWhy_0 ++ dktX1_planWhy_1
theorem dksX1_planWhy_0 : cX1_planWhy.data.toList.drop 0 = dktX1_planWhy_0 := by decide +kernel
theorem dksX1_planWhy_1 : cX1_planWhy.data.toList.drop 24 = dktX1_planWhy_1 := dk_seg dksX1_planWhy_0 24 rfl rfl
theorem dX1_planWhy_0 : decode cX1_planWhy 0 = .ok (.aload_n 0, 1) := dk_42 (dk_at dksX1_planWhy_0 0 rfl rfl)
theorem dX1_planWhy_1 : decode cX1_planWhy 1 = .ok (.iload_n 1, 1) := dk_27 (dk_at dksX1_planWhy_0 1 rfl rfl)
theorem dX1_planWhy_2 : decode cX1_planWhy 2 = .ok (.invokevirtual 126, 3) := dk_182 0 126 (dk_at dksX1_planWhy_0 2 rfl rfl)
theorem dX1_planWhy_5 : decode cX1_planWhy 5 = .ok (.ifCond .ne 7, 3) := dk_154 0 7 (dk_at dksX1_planWhy_0 5 rfl rfl)
theorem dX1_planWhy_8 : decode cX1_planWhy 8 = .ok (.iconst 1, 1) := dk_4 (dk_at dksX1_planWhy_0 8 rfl rfl)
theorem dX1_planWhy_9 : decode cX1_planWhy 9 = .ok (.goto 27, 3) := dk_167 0 27 (dk_at dksX1_planWhy_0 9 rfl rfl)
theorem dX1_planWhy_12 : decode cX1_planWhy 12 = .ok (.iload_n 2, 1) := dk_28 (dk_at dksX1_planWhy_0 12 rfl rfl)
theorem dX1_planWhy_13 : decode cX1_planWhy 13 = .ok (.ifCond .ne 7, 3) := dk_154 0 7 (dk_at dksX1_planWhy_0 13 rfl rfl)
theorem dX1_planWhy_16 : decode cX1_planWhy 16 = .ok (.iconst 2, 1) := dk_5 (dk_at dksX1_planWhy_0 16 rfl rfl)
theorem dX1_planWhy_17 : decode cX1_planWhy 17 = .ok (.goto 19, 3) := dk_167 0 19 (dk_at dksX1_planWhy_0 17 rfl rfl)
theorem dX1_planWhy_20 : decode cX1_planWhy 20 = .ok (.aload_n 0, 1) := dk_42 (dk_at dksX1_planWhy_0 20 rfl rfl)
theorem dX1_planWhy_21 : decode cX1_planWhy 21 = .ok (.getfield 33, 3) := dk_180 0 33 (dk_at dksX1_planWhy_0 21 rfl rfl)
theorem dX1_planWhy_24 : decode cX1_planWhy 24 = .ok (.iload_n 1, 1) := dk_27 (dk_at dksX1_planWhy_1 0 rfl rfl)
theorem dX1_planWhy_25 : decode cX1_planWhy 25 = .ok (.invokevirtual 130, 3) := dk_182 0 130 (dk_at dksX1_planWhy_1 1 rfl rfl)
theorem dX1_planWhy_28 : decode cX1_planWhy 28 = .ok (.ifCond .eq 7, 3) := dk_153 0 7 (dk_at dksX1_planWhy_1 4 rfl rfl)
theorem dX1_planWhy_31 : decode cX1_planWhy 31 = .ok (.iconst 0, 1) := dk_3 (dk_at dksX1_planWhy_1 7 rfl rfl)
theorem dX1_planWhy_32 : decode cX1_planWhy 32 = .ok (.goto 4, 3) := dk_167 0 4 (dk_at dksX1_planWhy_1 8 rfl rfl)
theorem dX1_planWhy_35 : decode cX1_planWhy 35 = .ok (.iconst 5, 1) := dk_8 (dk_at dksX1_planWhy_1 11 rfl rfl)
theorem dX1_planWhy_36 : decode cX1_planWhy 36 = .ok (.ireturn, 1) := dk_172 (dk_at dksX1_planWhy_1 12 rfl rfl)
abbrev cX1_bestMean : ByteArray := prog_1_method_43_code
def yX1_bestMean : MethodName := ⟨RX1, "bestMean", "(IIZ)J"⟩
def dkwX1_bestMean_2 : List UInt8 := [55, 5, 22, 5, 42, 180, 0, 46, 180, 0, 212, 29, 184, 0, 215, 173]
abbrev dktX1_bestMean_2 : List UInt8 := dkwX1_bestMean_2 ++ []
def dkwX1_bestMean_1 : List UInt8 := [21, 4, 182, 0, 90, 133, 173, 42, 180, 0, 55, 42, 180, 0, 33, 27, 28, 182, 0, 230, 180, 0, 237]
abbrev dktX1_bestMean_1 : List UInt8 := dkwX1_bestMean_1 ++ dktX1_bestMean_2
def dkwX1_bestMean_0 : List UInt8 := [42, 182, 0, 76, 42, 27, 28, 4, 6, 184, 0, 86, 182, 0, 226, 54, 4, 21, 4, 153, 0, 11, 42]
abbrev dktX1_bestMean_0 : List UInt8 := dkwX1_bestMean_0 ++ dktX1_bestMean_1
theorem dksX1_bestMean_0 : cX1_bestMean.data.toList.drop 0 = dktX1_bestMean_0 := by decide +kernel
theorem dksX1_bestMean_1 : cX1_bestMean.data.toList.drop 23 = dktX1_bestMean_1 := dk_seg dksX1_bestMean_0 23 rfl rfl
theorem dksX1_bestMean_2 : cX1_bestMean.data.toList.drop 46 = dktX1_bestMean_2 := dk_seg dksX1_bestMean_1 23 rfl rfl
theorem dX1_bestMean_0 : decode cX1_bestMean 0 = .ok (.aload_n 0, 1) := dk_42 (dk_at dksX1_bestMean_0 0 rfl rfl)
theorem dX1_bestMean_1 : decode cX1_bestMean 1 = .ok (.invokevirtual 76, 3) := dk_182 0 76 (dk_at dksX1_bestMean_0 1 rfl rfl)
theorem dX1_bestMean_4 : decode cX1_bestMean 4 = .ok (.aload_n 0, 1) := dk_42 (dk_at dksX1_bestMean_0 4 rfl rfl)
theorem dX1_bestMean_5 : decode cX1_bestMean 5 = .ok (.iload_n 1, 1) := dk_27 (dk_at dksX1_bestMean_0 5 rfl rfl)
theorem dX1_bestMean_6 : decode cX1_bestMean 6 = .ok (.iload_n 2, 1) := dk_28 (dk_at dksX1_bestMean_0 6 rfl rfl)
theorem dX1_bestMean_7 : decode cX1_bestMean 7 = .ok (.iconst 1, 1) := dk_4 (dk_at dksX1_bestMean_0 7 rfl rfl)
theorem dX1_bestMean_8 : decode cX1_bestMean 8 = .ok (.iconst 3, 1) := dk_6 (dk_at dksX1_bestMean_0 8 rfl rfl)
theorem dX1_bestMean_9 : decode cX1_bestMean 9 = .ok (.invokestatic 86, 3) := dk_184 0 86 (dk_at dksX1_bestMean_0 9 rfl rfl)
theorem dX1_bestMean_12 : decode cX1_bestMean 12 = .ok (.invokevirtual 226, 3) := dk_182 0 226 (dk_at dksX1_bestMean_0 12 rfl rfl)
theorem dX1_bestMean_15 : decode cX1_bestMean 15 = .ok (.istore 4, 2) := dk_54 4 (dk_at dksX1_bestMean_0 15 rfl rfl)
theorem dX1_bestMean_17 : decode cX1_bestMean 17 = .ok (.iload 4, 2) := dk_21 4 (dk_at dksX1_bestMean_0 17 rfl rfl)
theorem dX1_bestMean_19 : decode cX1_bestMean 19 = .ok (.ifCond .eq 11, 3) := dk_153 0 11 (dk_at dksX1_bestMean_0 19 rfl rfl)
theorem dX1_bestMean_22 : decode cX1_bestMean 22 = .ok (.aload_n 0, 1) := dk_42 (dk_at dksX1_bestMean_0 22 rfl rfl)
theorem dX1_bestMean_23 : decode cX1_bestMean 23 = .ok (.iload 4, 2) := dk_21 4 (dk_at dksX1_bestMean_1 0 rfl rfl)
theorem dX1_bestMean_25 : decode cX1_bestMean 25 = .ok (.invokevirtual 90, 3) := dk_182 0 90 (dk_at dksX1_bestMean_1 2 rfl rfl)
theorem dX1_bestMean_28 : decode cX1_bestMean 28 = .ok (.i2l, 1) := dk_133 (dk_at dksX1_bestMean_1 5 rfl rfl)
theorem dX1_bestMean_29 : decode cX1_bestMean 29 = .ok (.lreturn, 1) := dk_173 (dk_at dksX1_bestMean_1 6 rfl rfl)
theorem dX1_bestMean_30 : decode cX1_bestMean 30 = .ok (.aload_n 0, 1) := dk_42 (dk_at dksX1_bestMean_1 7 rfl rfl)
theorem dX1_bestMean_31 : decode cX1_bestMean 31 = .ok (.getfield 55, 3) := dk_180 0 55 (dk_at dksX1_bestMean_1 8 rfl rfl)
theorem dX1_bestMean_34 : decode cX1_bestMean 34 = .ok (.aload_n 0, 1) := dk_42 (dk_at dksX1_bestMean_1 11 rfl rfl)
theorem dX1_bestMean_35 : decode cX1_bestMean 35 = .ok (.getfield 33, 3) := dk_180 0 33 (dk_at dksX1_bestMean_1 12 rfl rfl)
theorem dX1_bestMean_38 : decode cX1_bestMean 38 = .ok (.iload_n 1, 1) := dk_27 (dk_at dksX1_bestMean_1 15 rfl rfl)
theorem dX1_bestMean_39 : decode cX1_bestMean 39 = .ok (.iload_n 2, 1) := dk_28 (dk_at dksX1_bestMean_1 16 rfl rfl)
theorem dX1_bestMean_40 : decode cX1_bestMean 40 = .ok (.invokevirtual 230, 3) := dk_182 0 230 (dk_at dksX1_bestMean_1 17 rfl rfl)
theorem dX1_bestMean_43 : decode cX1_bestMean 43 = .ok (.getfield 237, 3) := dk_180 0 237 (dk_at dksX1_bestMean_1 20 rfl rfl)
theorem dX1_bestMean_46 : decode cX1_bestMean 46 = .ok (.lstore 5, 2) := dk_55 5 (dk_at dksX1_bestMean_2 0 rfl rfl)
theorem dX1_bestMean_48 : decode cX1_bestMean 48 = .ok (.lload 5, 2) := dk_22 5 (dk_at dksX1_bestMean_2 2 rfl rfl)
theorem dX1_bestMean_50 : decode cX1_bestMean 50 = .ok (.aload_n 0, 1) := dk_42 (dk_at dksX1_bestMean_2 4 rfl rfl)
theorem dX1_bestMean_51 : decode cX1_bestMean 51 = .ok (.getfield 46, 3) := dk_180 0 46 (dk_at dksX1_bestMean_2 5 rfl rfl)
theorem dX1_bestMean_54 : decode cX1_bestMean 54 = .ok (.getfield 212, 3) := dk_180 0 212 (dk_at dksX1_bestMean_2 8 rfl rfl)
theorem dX1_bestMean_57 : decode cX1_bestMean 57 = .ok (.iload_n 3, 1) := dk_29 (dk_at dksX1_bestMean_2 11 rfl rfl)
theorem dX1_bestMean_58 : decode cX1_bestMean 58 = .ok (.invokestatic 215, 3) := dk_184 0 215 (dk_at dksX1_bestMean_2 12 rfl rfl)
theorem dX1_bestMean_61 : decode cX1_bestMean 61 = .ok (.lreturn, 1) := dk_173 (dk_at dksX1_bestMean_2 15 rfl rfl)
abbrev cX1_tour : ByteArray := prog_1_method_44_code
def yX1_tour : MethodName := ⟨RX1, "tour", "(II)I"⟩
def dkwX1_tour_1 : List UInt8 := [182, 0, 90, 167, 0, 19, 42, 180, 0, 55, 42, 180, 0, 33, 27, 28, 182, 0, 240, 180, 0, 243, 172]
abbrev dktX1_tour_1 : List UInt8 := dkwX1_tour_1 ++ []
def dkwX1_tour_0 : List UInt8 := [42, 182, 0, 76, 42, 27, 28, 3, 16, 12, 184, 0, 86, 182, 0, 226, 62, 29, 153, 0, 11, 42, 29]
abbrev dktX1_tour_0 : List UInt8 := dkwX1_tour_0 ++ dktX1_tour_1
theorem dksX1_tour_0 : cX1_tour.data.toList.drop 0 = dktX1_tour_0 := by decide +kernel
theorem dksX1_tour_1 : cX1_tour.data.toList.drop 23 = dktX1_tour_1 := dk_seg dksX1_tour_0 23 rfl rfl
theorem dX1_tour_0 : decode cX1_tour 0 = .ok (.aload_n 0, 1) := dk_42 (dk_at dksX1_tour_0 0 rfl rfl)
theorem dX1_tour_1 : decode cX1_tour 1 = .ok (.invokevirtual 76, 3) := dk_182 0 76 (dk_at dksX1_tour_0 1 rfl rfl)
theorem dX1_tour_4 : decode cX1_tour 4 = .ok (.aload_n 0, 1) := dk_42 (dk_at dksX1_tour_0 4 rfl rfl)
theorem dX1_tour_5 : decode cX1_tour 5 = .ok (.iload_n 1, 1) := dk_27 (dk_at dksX1_tour_0 5 rfl rfl)
theorem dX1_tour_6 : decode cX1_tour 6 = .ok (.iload_n 2, 1) := dk_28 (dk_at dksX1_tour_0 6 rfl rfl)
theorem dX1_tour_7 : decode cX1_tour 7 = .ok (.iconst 0, 1) := dk_3 (dk_at dksX1_tour_0 7 rfl rfl)
theorem dX1_tour_8 : decode cX1_tour 8 = .ok (.bipush 12, 2) := dk_16 12 (dk_at dksX1_tour_0 8 rfl rfl)
theorem dX1_tour_10 : decode cX1_tour 10 = .ok (.invokestatic 86, 3) := dk_184 0 86 (dk_at dksX1_tour_0 10 rfl rfl)
theorem dX1_tour_13 : decode cX1_tour 13 = .ok (.invokevirtual 226, 3) := dk_182 0 226 (dk_at dksX1_tour_0 13 rfl rfl)
theorem dX1_tour_16 : decode cX1_tour 16 = .ok (.istore_n 3, 1) := dk_62 (dk_at dksX1_tour_0 16 rfl rfl)
theorem dX1_tour_17 : decode cX1_tour 17 = .ok (.iload_n 3, 1) := dk_29 (dk_at dksX1_tour_0 17 rfl rfl)
theorem dX1_tour_18 : decode cX1_tour 18 = .ok (.ifCond .eq 11, 3) := dk_153 0 11 (dk_at dksX1_tour_0 18 rfl rfl)
theorem dX1_tour_21 : decode cX1_tour 21 = .ok (.aload_n 0, 1) := dk_42 (dk_at dksX1_tour_0 21 rfl rfl)
theorem dX1_tour_22 : decode cX1_tour 22 = .ok (.iload_n 3, 1) := dk_29 (dk_at dksX1_tour_0 22 rfl rfl)
theorem dX1_tour_23 : decode cX1_tour 23 = .ok (.invokevirtual 90, 3) := dk_182 0 90 (dk_at dksX1_tour_1 0 rfl rfl)
theorem dX1_tour_26 : decode cX1_tour 26 = .ok (.goto 19, 3) := dk_167 0 19 (dk_at dksX1_tour_1 3 rfl rfl)
theorem dX1_tour_29 : decode cX1_tour 29 = .ok (.aload_n 0, 1) := dk_42 (dk_at dksX1_tour_1 6 rfl rfl)
theorem dX1_tour_30 : decode cX1_tour 30 = .ok (.getfield 55, 3) := dk_180 0 55 (dk_at dksX1_tour_1 7 rfl rfl)
theorem dX1_tour_33 : decode cX1_tour 33 = .ok (.aload_n 0, 1) := dk_42 (dk_at dksX1_tour_1 10 rfl rfl)
theorem dX1_tour_34 : decode cX1_tour 34 = .ok (.getfield 33, 3) := dk_180 0 33 (dk_at dksX1_tour_1 11 rfl rfl)
theorem dX1_tour_37 : decode cX1_tour 37 = .ok (.iload_n 1, 1) := dk_27 (dk_at dksX1_tour_1 14 rfl rfl)
theorem dX1_tour_38 : decode cX1_tour 38 = .ok (.iload_n 2, 1) := dk_28 (dk_at dksX1_tour_1 15 rfl rfl)
theorem dX1_tour_39 : decode cX1_tour 39 = .ok (.invokevirtual 240, 3) := dk_182 0 240 (dk_at dksX1_tour_1 16 rfl rfl)
theorem dX1_tour_42 : decode cX1_tour 42 = .ok (.getfield 243, 3) := dk_180 0 243 (dk_at dksX1_tour_1 19 rfl rfl)
theorem dX1_tour_45 : decode cX1_tour 45 = .ok (.ireturn, 1) := dk_172 (dk_at dksX1_tour_1 22 rfl rfl)
abbrev cX1_tourHours : ByteArray := prog_1_method_45_code
def yX1_tourHours : MethodName := ⟨RX1, "tourHours", "(II)I"⟩
def dkwX1_tourHours_1 : List UInt8 := [182, 0, 90, 167, 0, 20, 42, 180, 0, 55, 42, 180, 0, 33, 27, 28, 182, 0, 240, 180, 0, 237, 136, 172]
abbrev dktX1_tourHours_1 : List UInt8 := dkwX1_tourHours_1 ++ []
def dkwX1_tourHours_0 : List UInt8 := [42, 182, 0, 76, 42, 27, 28, 3, 16, 12, 184, 0, 86, 182, 0, 226, 62, 29, 153, 0, 11, 42, 29]
abbrev dktX1_tourHours_0 : List UInt8 := dkwX1_tourHours_0 ++ dktX1_tourHours_1
theorem dksX1_tourHours_0 : cX1_tourHours.data.toList.drop 0 = dktX1_tourHours_0 := by decide +kernel
theorem dksX1_tourHours_1 : cX1_tourHours.data.toList.drop 23 = dktX1_tourHours_1 := dk_seg dksX1_tourHours_0 23 rfl rfl
theorem dX1_tourHours_0 : decode cX1_tourHours 0 = .ok (.aload_n 0, 1) := dk_42 (dk_at dksX1_tourHours_0 0 rfl rfl)
theorem dX1_tourHours_1 : decode cX1_tourHours 1 = .ok (.invokevirtual 76, 3) := dk_182 0 76 (dk_at dksX1_tourHours_0 1 rfl rfl)
theorem dX1_tourHours_4 : decode cX1_tourHours 4 = .ok (.aload_n 0, 1) := dk_42 (dk_at dksX1_tourHours_0 4 rfl rfl)
theorem dX1_tourHours_5 : decode cX1_tourHours 5 = .ok (.iload_n 1, 1) := dk_27 (dk_at dksX1_tourHours_0 5 rfl rfl)
theorem dX1_tourHours_6 : decode cX1_tourHours 6 = .ok (.iload_n 2, 1) := dk_28 (dk_at dksX1_tourHours_0 6 rfl rfl)
theorem dX1_tourHours_7 : decode cX1_tourHours 7 = .ok (.iconst 0, 1) := dk_3 (dk_at dksX1_tourHours_0 7 rfl rfl)
theorem dX1_tourHours_8 : decode cX1_tourHours 8 = .ok (.bipush 12, 2) := dk_16 12 (dk_at dksX1_tourHours_0 8 rfl rfl)
theorem dX1_tourHours_10 : decode cX1_tourHours 10 = .ok (.invokestatic 86, 3) := dk_184 0 86 (dk_at dksX1_tourHours_0 10 rfl rfl)
theorem dX1_tourHours_13 : decode cX1_tourHours 13 = .ok (.invokevirtual 226, 3) := dk_182 0 226 (dk_at dksX1_tourHours_0 13 rfl rfl)
theorem dX1_tourHours_16 : decode cX1_tourHours 16 = .ok (.istore_n 3, 1) := dk_62 (dk_at dksX1_tourHours_0 16 rfl rfl)
theorem dX1_tourHours_17 : decode cX1_tourHours 17 = .ok (.iload_n 3, 1) := dk_29 (dk_at dksX1_tourHours_0 17 rfl rfl)
theorem dX1_tourHours_18 : decode cX1_tourHours 18 = .ok (.ifCond .eq 11, 3) := dk_153 0 11 (dk_at dksX1_tourHours_0 18 rfl rfl)
theorem dX1_tourHours_21 : decode cX1_tourHours 21 = .ok (.aload_n 0, 1) := dk_42 (dk_at dksX1_tourHours_0 21 rfl rfl)
theorem dX1_tourHours_22 : decode cX1_tourHours 22 = .ok (.iload_n 3, 1) := dk_29 (dk_at dksX1_tourHours_0 22 rfl rfl)
theorem dX1_tourHours_23 : decode cX1_tourHours 23 = .ok (.invokevirtual 90, 3) := dk_182 0 90 (dk_at dksX1_tourHours_1 0 rfl rfl)
theorem dX1_tourHours_26 : decode cX1_tourHours 26 = .ok (.goto 20, 3) := dk_167 0 20 (dk_at dksX1_tourHours_1 3 rfl rfl)
theorem dX1_tourHours_29 : decode cX1_tourHours 29 = .ok (.aload_n 0, 1) := dk_42 (dk_at dksX1_tourHours_1 6 rfl rfl)
theorem dX1_tourHours_30 : decode cX1_tourHours 30 = .ok (.getfield 55, 3) := dk_180 0 55 (dk_at dksX1_tourHours_1 7 rfl rfl)
theorem dX1_tourHours_33 : decode cX1_tourHours 33 = .ok (.aload_n 0, 1) := dk_42 (dk_at dksX1_tourHours_1 10 rfl rfl)
theorem dX1_tourHours_34 : decode cX1_tourHours 34 = .ok (.getfield 33, 3) := dk_180 0 33 (dk_at dksX1_tourHours_1 11 rfl rfl)
theorem dX1_tourHours_37 : decode cX1_tourHours 37 = .ok (.iload_n 1, 1) := dk_27 (dk_at dksX1_tourHours_1 14 rfl rfl)
theorem dX1_tourHours_38 : decode cX1_tourHours 38 = .ok (.iload_n 2, 1) := dk_28 (dk_at dksX1_tourHours_1 15 rfl rfl)
theorem dX1_tourHours_39 : decode cX1_tourHours 39 = .ok (.invokevirtual 240, 3) := dk_182 0 240 (dk_at dksX1_tourHours_1 16 rfl rfl)
theorem dX1_tourHours_42 : decode cX1_tourHours 42 = .ok (.getfield 237, 3) := dk_180 0 237 (dk_at dksX1_tourHours_1 19 rfl rfl)
theorem dX1_tourHours_45 : decode cX1_tourHours 45 = .ok (.l2i, 1) := dk_136 (dk_at dksX1_tourHours_1 22 rfl rfl)
theorem dX1_tourHours_46 : decode cX1_tourHours 46 = .ok (.ireturn, 1) := dk_172 (dk_at dksX1_tourHours_1 23 rfl rfl)
abbrev cX1_apart : ByteArray := prog_1_method_46_code
def yX1_apart : MethodName := ⟨RX1, "apart", "(II)I"⟩
def dkwX1_apart_2 : List UInt8 := [167, 0, 4, 29, 172]
abbrev dktX1_apart_2 : List UInt8 := dkwX1_apart_2 ++ []
def dkwX1_apart_1 : List UInt8 := [182, 0, 90, 172, 42, 180, 0, 101, 27, 28, 184, 0, 246, 62, 29, 18, 250, 160, 0, 8, 16, 254]
abbrev dktX1_apart_1 : List UInt8 := dkwX1_apart_1 ++ dktX1_apart_2
def dkwX1_apart_0 : List UInt8 := [42, 182, 0, 76, 42, 27, 182, 0, 126, 153, 0, 11, 42, 28, 182, 0, 126, 154, 0, 9, 42, 4]
abbrev dktX1_apart_0 : List UInt8 := dkwX1_apart_0 ++ dktX1_apart_1
theorem dksX1_apart_0 : cX1_apart.data.toList.drop 0 = dktX1_apart_0 := by decide +kernel
theorem dksX1_apart_1 : cX1_apart.data.toList.drop 22 = dktX1_apart_1 := dk_seg dksX1_apart_0 22 rfl rfl
theorem dksX1_apart_2 : cX1_apart.data.toList.drop 44 = dktX1_apart_2 := dk_seg dksX1_apart_1 22 rfl rfl
theorem dX1_apart_0 : decode cX1_apart 0 = .ok (.aload_n 0, 1) := dk_42 (dk_at dksX1_apart_0 0 rfl rfl)
theorem dX1_apart_1 : decode cX1_apart 1 = .ok (.invokevirtual 76, 3) := dk_182 0 76 (dk_at dksX1_apart_0 1 rfl rfl)
theorem dX1_apart_4 : decode cX1_apart 4 = .ok (.aload_n 0, 1) := dk_42 (dk_at dksX1_apart_0 4 rfl rfl)
theorem dX1_apart_5 : decode cX1_apart 5 = .ok (.iload_n 1, 1) := dk_27 (dk_at dksX1_apart_0 5 rfl rfl)
theorem dX1_apart_6 : decode cX1_apart 6 = .ok (.invokevirtual 126, 3) := dk_182 0 126 (dk_at dksX1_apart_0 6 rfl rfl)
theorem dX1_apart_9 : decode cX1_apart 9 = .ok (.ifCond .eq 11, 3) := dk_153 0 11 (dk_at dksX1_apart_0 9 rfl rfl)
theorem dX1_apart_12 : decode cX1_apart 12 = .ok (.aload_n 0, 1) := dk_42 (dk_at dksX1_apart_0 12 rfl rfl)
theorem dX1_apart_13 : decode cX1_apart 13 = .ok (.iload_n 2, 1) := dk_28 (dk_at dksX1_apart_0 13 rfl rfl)
theorem dX1_apart_14 : decode cX1_apart 14 = .ok (.invokevirtual 126, 3) := dk_182 0 126 (dk_at dksX1_apart_0 14 rfl rfl)
theorem dX1_apart_17 : decode cX1_apart 17 = .ok (.ifCond .ne 9, 3) := dk_154 0 9 (dk_at dksX1_apart_0 17 rfl rfl)
theorem dX1_apart_20 : decode cX1_apart 20 = .ok (.aload_n 0, 1) := dk_42 (dk_at dksX1_apart_0 20 rfl rfl)
theorem dX1_apart_21 : decode cX1_apart 21 = .ok (.iconst 1, 1) := dk_4 (dk_at dksX1_apart_0 21 rfl rfl)
theorem dX1_apart_22 : decode cX1_apart 22 = .ok (.invokevirtual 90, 3) := dk_182 0 90 (dk_at dksX1_apart_1 0 rfl rfl)
theorem dX1_apart_25 : decode cX1_apart 25 = .ok (.ireturn, 1) := dk_172 (dk_at dksX1_apart_1 3 rfl rfl)
theorem dX1_apart_26 : decode cX1_apart 26 = .ok (.aload_n 0, 1) := dk_42 (dk_at dksX1_apart_1 4 rfl rfl)
theorem dX1_apart_27 : decode cX1_apart 27 = .ok (.getfield 101, 3) := dk_180 0 101 (dk_at dksX1_apart_1 5 rfl rfl)
theorem dX1_apart_30 : decode cX1_apart 30 = .ok (.iload_n 1, 1) := dk_27 (dk_at dksX1_apart_1 8 rfl rfl)
theorem dX1_apart_31 : decode cX1_apart 31 = .ok (.iload_n 2, 1) := dk_28 (dk_at dksX1_apart_1 9 rfl rfl)
theorem dX1_apart_32 : decode cX1_apart 32 = .ok (.invokestatic 246, 3) := dk_184 0 246 (dk_at dksX1_apart_1 10 rfl rfl)
theorem dX1_apart_35 : decode cX1_apart 35 = .ok (.istore_n 3, 1) := dk_62 (dk_at dksX1_apart_1 13 rfl rfl)
theorem dX1_apart_36 : decode cX1_apart 36 = .ok (.iload_n 3, 1) := dk_29 (dk_at dksX1_apart_1 14 rfl rfl)
theorem dX1_apart_37 : decode cX1_apart 37 = .ok (.ldc 250, 2) := dk_18 250 (dk_at dksX1_apart_1 15 rfl rfl)
theorem dX1_apart_39 : decode cX1_apart 39 = .ok (.if_icmp .ne 8, 3) := dk_160 0 8 (dk_at dksX1_apart_1 17 rfl rfl)
theorem dX1_apart_42 : decode cX1_apart 42 = .ok (.bipush (-2), 2) := dk_16 254 (dk_at dksX1_apart_1 20 rfl rfl)
theorem dX1_apart_44 : decode cX1_apart 44 = .ok (.goto 4, 3) := dk_167 0 4 (dk_at dksX1_apart_2 0 rfl rfl)
theorem dX1_apart_47 : decode cX1_apart 47 = .ok (.iload_n 3, 1) := dk_29 (dk_at dksX1_apart_2 3 rfl rfl)
theorem dX1_apart_48 : decode cX1_apart 48 = .ok (.ireturn, 1) := dk_172 (dk_at dksX1_apart_2 4 rfl rfl)
abbrev cX1_toAsk : ByteArray := prog_1_method_47_code
def yX1_toAsk : MethodName := ⟨RX1, "toAsk", "(I)I"⟩
def dkwX1_toAsk_4 : List UInt8 := [167, 255, 201, 29, 172]
abbrev dktX1_toAsk_4 : List UInt8 := dkwX1_toAsk_4 ++ []
def dkwX1_toAsk_3 : List UInt8 := [180, 0, 153, 21, 4, 46, 42, 180, 0, 33, 180, 0, 153, 29, 46, 164, 0, 6, 21, 4, 62, 132, 4, 1]
abbrev dktX1_toAsk_3 : List UInt8 := dkwX1_toAsk_3 ++ dktX1_toAsk_4
def dkwX1_toAsk_2 : List UInt8 := [162, 0, 49, 28, 21, 4, 184, 0, 193, 153, 0, 34, 29, 16, 254, 159, 0, 25, 42, 180, 0, 33]
abbrev dktX1_toAsk_2 : List UInt8 := dkwX1_toAsk_2 ++ dktX1_toAsk_3
def dkwX1_toAsk_1 : List UInt8 := [27, 182, 0, 181, 2, 130, 126, 61, 16, 254, 62, 3, 54, 4, 21, 4, 42, 180, 0, 101, 180, 0, 121]
abbrev dktX1_toAsk_1 : List UInt8 := dkwX1_toAsk_1 ++ dktX1_toAsk_2
def dkwX1_toAsk_0 : List UInt8 := [42, 182, 0, 76, 42, 27, 182, 0, 126, 154, 0, 9, 42, 4, 182, 0, 90, 172, 42, 27, 182, 0, 162, 42]
abbrev dktX1_toAsk_0 : List UInt8 := dkwX1_toAsk_0 ++ dktX1_toAsk_1
theorem dksX1_toAsk_0 : cX1_toAsk.data.toList.drop 0 = dktX1_toAsk_0 := by decide +kernel
theorem dksX1_toAsk_1 : cX1_toAsk.data.toList.drop 24 = dktX1_toAsk_1 := dk_seg dksX1_toAsk_0 24 rfl rfl
theorem dksX1_toAsk_2 : cX1_toAsk.data.toList.drop 47 = dktX1_toAsk_2 := dk_seg dksX1_toAsk_1 23 rfl rfl
theorem dksX1_toAsk_3 : cX1_toAsk.data.toList.drop 69 = dktX1_toAsk_3 := dk_seg dksX1_toAsk_2 22 rfl rfl
theorem dksX1_toAsk_4 : cX1_toAsk.data.toList.drop 93 = dktX1_toAsk_4 := dk_seg dksX1_toAsk_3 24 rfl rfl
theorem dX1_toAsk_0 : decode cX1_toAsk 0 = .ok (.aload_n 0, 1) := dk_42 (dk_at dksX1_toAsk_0 0 rfl rfl)
theorem dX1_toAsk_1 : decode cX1_toAsk 1 = .ok (.invokevirtual 76, 3) := dk_182 0 76 (dk_at dksX1_toAsk_0 1 rfl rfl)
theorem dX1_toAsk_4 : decode cX1_toAsk 4 = .ok (.aload_n 0, 1) := dk_42 (dk_at dksX1_toAsk_0 4 rfl rfl)
theorem dX1_toAsk_5 : decode cX1_toAsk 5 = .ok (.iload_n 1, 1) := dk_27 (dk_at dksX1_toAsk_0 5 rfl rfl)
theorem dX1_toAsk_6 : decode cX1_toAsk 6 = .ok (.invokevirtual 126, 3) := dk_182 0 126 (dk_at dksX1_toAsk_0 6 rfl rfl)
theorem dX1_toAsk_9 : decode cX1_toAsk 9 = .ok (.ifCond .ne 9, 3) := dk_154 0 9 (dk_at dksX1_toAsk_0 9 rfl rfl)
theorem dX1_toAsk_12 : decode cX1_toAsk 12 = .ok (.aload_n 0, 1) := dk_42 (dk_at dksX1_toAsk_0 12 rfl rfl)
theorem dX1_toAsk_13 : decode cX1_toAsk 13 = .ok (.iconst 1, 1) := dk_4 (dk_at dksX1_toAsk_0 13 rfl rfl)
theorem dX1_toAsk_14 : decode cX1_toAsk 14 = .ok (.invokevirtual 90, 3) := dk_182 0 90 (dk_at dksX1_toAsk_0 14 rfl rfl)
theorem dX1_toAsk_17 : decode cX1_toAsk 17 = .ok (.ireturn, 1) := dk_172 (dk_at dksX1_toAsk_0 17 rfl rfl)
theorem dX1_toAsk_18 : decode cX1_toAsk 18 = .ok (.aload_n 0, 1) := dk_42 (dk_at dksX1_toAsk_0 18 rfl rfl)
theorem dX1_toAsk_19 : decode cX1_toAsk 19 = .ok (.iload_n 1, 1) := dk_27 (dk_at dksX1_toAsk_0 19 rfl rfl)
theorem dX1_toAsk_20 : decode cX1_toAsk 20 = .ok (.invokevirtual 162, 3) := dk_182 0 162 (dk_at dksX1_toAsk_0 20 rfl rfl)
theorem dX1_toAsk_23 : decode cX1_toAsk 23 = .ok (.aload_n 0, 1) := dk_42 (dk_at dksX1_toAsk_0 23 rfl rfl)
theorem dX1_toAsk_24 : decode cX1_toAsk 24 = .ok (.iload_n 1, 1) := dk_27 (dk_at dksX1_toAsk_1 0 rfl rfl)
theorem dX1_toAsk_25 : decode cX1_toAsk 25 = .ok (.invokevirtual 181, 3) := dk_182 0 181 (dk_at dksX1_toAsk_1 1 rfl rfl)
theorem dX1_toAsk_28 : decode cX1_toAsk 28 = .ok (.iconst (-1), 1) := dk_2 (dk_at dksX1_toAsk_1 4 rfl rfl)
theorem dX1_toAsk_29 : decode cX1_toAsk 29 = .ok (.ixor, 1) := dk_130 (dk_at dksX1_toAsk_1 5 rfl rfl)
theorem dX1_toAsk_30 : decode cX1_toAsk 30 = .ok (.iand, 1) := dk_126 (dk_at dksX1_toAsk_1 6 rfl rfl)
theorem dX1_toAsk_31 : decode cX1_toAsk 31 = .ok (.istore_n 2, 1) := dk_61 (dk_at dksX1_toAsk_1 7 rfl rfl)
theorem dX1_toAsk_32 : decode cX1_toAsk 32 = .ok (.bipush (-2), 2) := dk_16 254 (dk_at dksX1_toAsk_1 8 rfl rfl)
theorem dX1_toAsk_34 : decode cX1_toAsk 34 = .ok (.istore_n 3, 1) := dk_62 (dk_at dksX1_toAsk_1 10 rfl rfl)
theorem dX1_toAsk_35 : decode cX1_toAsk 35 = .ok (.iconst 0, 1) := dk_3 (dk_at dksX1_toAsk_1 11 rfl rfl)
theorem dX1_toAsk_36 : decode cX1_toAsk 36 = .ok (.istore 4, 2) := dk_54 4 (dk_at dksX1_toAsk_1 12 rfl rfl)
theorem dX1_toAsk_38 : decode cX1_toAsk 38 = .ok (.iload 4, 2) := dk_21 4 (dk_at dksX1_toAsk_1 14 rfl rfl)
theorem dX1_toAsk_40 : decode cX1_toAsk 40 = .ok (.aload_n 0, 1) := dk_42 (dk_at dksX1_toAsk_1 16 rfl rfl)
theorem dX1_toAsk_41 : decode cX1_toAsk 41 = .ok (.getfield 101, 3) := dk_180 0 101 (dk_at dksX1_toAsk_1 17 rfl rfl)
theorem dX1_toAsk_44 : decode cX1_toAsk 44 = .ok (.getfield 121, 3) := dk_180 0 121 (dk_at dksX1_toAsk_1 20 rfl rfl)
theorem dX1_toAsk_47 : decode cX1_toAsk 47 = .ok (.if_icmp .ge 49, 3) := dk_162 0 49 (dk_at dksX1_toAsk_2 0 rfl rfl)
theorem dX1_toAsk_50 : decode cX1_toAsk 50 = .ok (.iload_n 2, 1) := dk_28 (dk_at dksX1_toAsk_2 3 rfl rfl)
theorem dX1_toAsk_51 : decode cX1_toAsk 51 = .ok (.iload 4, 2) := dk_21 4 (dk_at dksX1_toAsk_2 4 rfl rfl)
theorem dX1_toAsk_53 : decode cX1_toAsk 53 = .ok (.invokestatic 193, 3) := dk_184 0 193 (dk_at dksX1_toAsk_2 6 rfl rfl)
theorem dX1_toAsk_56 : decode cX1_toAsk 56 = .ok (.ifCond .eq 34, 3) := dk_153 0 34 (dk_at dksX1_toAsk_2 9 rfl rfl)
theorem dX1_toAsk_59 : decode cX1_toAsk 59 = .ok (.iload_n 3, 1) := dk_29 (dk_at dksX1_toAsk_2 12 rfl rfl)
theorem dX1_toAsk_60 : decode cX1_toAsk 60 = .ok (.bipush (-2), 2) := dk_16 254 (dk_at dksX1_toAsk_2 13 rfl rfl)
theorem dX1_toAsk_62 : decode cX1_toAsk 62 = .ok (.if_icmp .eq 25, 3) := dk_159 0 25 (dk_at dksX1_toAsk_2 15 rfl rfl)
theorem dX1_toAsk_65 : decode cX1_toAsk 65 = .ok (.aload_n 0, 1) := dk_42 (dk_at dksX1_toAsk_2 18 rfl rfl)
theorem dX1_toAsk_66 : decode cX1_toAsk 66 = .ok (.getfield 33, 3) := dk_180 0 33 (dk_at dksX1_toAsk_2 19 rfl rfl)
theorem dX1_toAsk_69 : decode cX1_toAsk 69 = .ok (.getfield 153, 3) := dk_180 0 153 (dk_at dksX1_toAsk_3 0 rfl rfl)
theorem dX1_toAsk_72 : decode cX1_toAsk 72 = .ok (.iload 4, 2) := dk_21 4 (dk_at dksX1_toAsk_3 3 rfl rfl)
theorem dX1_toAsk_74 : decode cX1_toAsk 74 = .ok (.iaload, 1) := dk_46 (dk_at dksX1_toAsk_3 5 rfl rfl)
theorem dX1_toAsk_75 : decode cX1_toAsk 75 = .ok (.aload_n 0, 1) := dk_42 (dk_at dksX1_toAsk_3 6 rfl rfl)
theorem dX1_toAsk_76 : decode cX1_toAsk 76 = .ok (.getfield 33, 3) := dk_180 0 33 (dk_at dksX1_toAsk_3 7 rfl rfl)
theorem dX1_toAsk_79 : decode cX1_toAsk 79 = .ok (.getfield 153, 3) := dk_180 0 153 (dk_at dksX1_toAsk_3 10 rfl rfl)
theorem dX1_toAsk_82 : decode cX1_toAsk 82 = .ok (.iload_n 3, 1) := dk_29 (dk_at dksX1_toAsk_3 13 rfl rfl)
theorem dX1_toAsk_83 : decode cX1_toAsk 83 = .ok (.iaload, 1) := dk_46 (dk_at dksX1_toAsk_3 14 rfl rfl)
theorem dX1_toAsk_84 : decode cX1_toAsk 84 = .ok (.if_icmp .le 6, 3) := dk_164 0 6 (dk_at dksX1_toAsk_3 15 rfl rfl)
theorem dX1_toAsk_87 : decode cX1_toAsk 87 = .ok (.iload 4, 2) := dk_21 4 (dk_at dksX1_toAsk_3 18 rfl rfl)
theorem dX1_toAsk_89 : decode cX1_toAsk 89 = .ok (.istore_n 3, 1) := dk_62 (dk_at dksX1_toAsk_3 20 rfl rfl)
theorem dX1_toAsk_90 : decode cX1_toAsk 90 = .ok (.iinc 4 1, 3) := dk_132 4 1 (dk_at dksX1_toAsk_3 21 rfl rfl)
theorem dX1_toAsk_93 : decode cX1_toAsk 93 = .ok (.goto (-55), 3) := dk_167 255 201 (dk_at dksX1_toAsk_4 0 rfl rfl)
theorem dX1_toAsk_96 : decode cX1_toAsk 96 = .ok (.iload_n 3, 1) := dk_29 (dk_at dksX1_toAsk_4 3 rfl rfl)
theorem dX1_toAsk_97 : decode cX1_toAsk 97 = .ok (.ireturn, 1) := dk_172 (dk_at dksX1_toAsk_4 4 rfl rfl)
abbrev cX1_rivals : ByteArray := prog_1_method_49_code
def yX1_rivals : MethodName := ⟨RX1, "rivals", "(II)I"⟩
def dkwX1_rivals_5 : List UInt8 := [21, 4, 120, 167, 0, 4, 3, 128, 62, 132, 4, 1, 167, 255, 195, 29, 172]
abbrev dktX1_rivals_5 : List UInt8 := dkwX1_rivals_5 ++ []
def dkwX1_rivals_4 : List UInt8 := [180, 0, 33, 21, 4, 182, 0, 130, 153, 0, 21, 42, 21, 4, 27, 28, 182, 0, 251, 153, 0, 10, 4]
abbrev dktX1_rivals_4 : List UInt8 := dkwX1_rivals_4 ++ dktX1_rivals_5
def dkwX1_rivals_3 : List UInt8 := [180, 0, 101, 180, 0, 121, 162, 0, 55, 29, 21, 4, 27, 159, 0, 39, 21, 4, 28, 159, 0, 33, 42]
abbrev dktX1_rivals_3 : List UInt8 := dkwX1_rivals_3 ++ dktX1_rivals_4
def dkwX1_rivals_2 : List UInt8 := [180, 0, 33, 27, 28, 182, 0, 171, 156, 0, 6, 16, 254, 172, 3, 62, 3, 54, 4, 21, 4, 42]
abbrev dktX1_rivals_2 : List UInt8 := dkwX1_rivals_2 ++ dktX1_rivals_3
def dkwX1_rivals_1 : List UInt8 := [182, 0, 130, 154, 0, 9, 42, 8, 182, 0, 90, 172, 42, 180, 0, 33, 27, 182, 0, 130, 153, 0, 15, 42]
abbrev dktX1_rivals_1 : List UInt8 := dkwX1_rivals_1 ++ dktX1_rivals_2
def dkwX1_rivals_0 : List UInt8 := [42, 182, 0, 76, 42, 27, 28, 182, 0, 168, 154, 0, 9, 42, 4, 182, 0, 90, 172, 42, 180, 0, 33, 28]
abbrev dktX1_rivals_0 : List UInt8 := dkwX1_rivals_0 ++ dktX1_rivals_1
theorem dksX1_rivals_0 : cX1_rivals.data.toList.drop 0 = dktX1_rivals_0 := by decide +kernel
theorem dksX1_rivals_1 : cX1_rivals.data.toList.drop 24 = dktX1_rivals_1 := dk_seg dksX1_rivals_0 24 rfl rfl
theorem dksX1_rivals_2 : cX1_rivals.data.toList.drop 48 = dktX1_rivals_2 := dk_seg dksX1_rivals_1 24 rfl rfl
theorem dksX1_rivals_3 : cX1_rivals.data.toList.drop 70 = dktX1_rivals_3 := dk_seg dksX1_rivals_2 22 rfl rfl
theorem dksX1_rivals_4 : cX1_rivals.data.toList.drop 93 = dktX1_rivals_4 := dk_seg dksX1_rivals_3 23 rfl rfl
theorem dksX1_rivals_5 : cX1_rivals.data.toList.drop 116 = dktX1_rivals_5 := dk_seg dksX1_rivals_4 23 rfl rfl
theorem dX1_rivals_0 : decode cX1_rivals 0 = .ok (.aload_n 0, 1) := dk_42 (dk_at dksX1_rivals_0 0 rfl rfl)
theorem dX1_rivals_1 : decode cX1_rivals 1 = .ok (.invokevirtual 76, 3) := dk_182 0 76 (dk_at dksX1_rivals_0 1 rfl rfl)
theorem dX1_rivals_4 : decode cX1_rivals 4 = .ok (.aload_n 0, 1) := dk_42 (dk_at dksX1_rivals_0 4 rfl rfl)
theorem dX1_rivals_5 : decode cX1_rivals 5 = .ok (.iload_n 1, 1) := dk_27 (dk_at dksX1_rivals_0 5 rfl rfl)
theorem dX1_rivals_6 : decode cX1_rivals 6 = .ok (.iload_n 2, 1) := dk_28 (dk_at dksX1_rivals_0 6 rfl rfl)
theorem dX1_rivals_7 : decode cX1_rivals 7 = .ok (.invokevirtual 168, 3) := dk_182 0 168 (dk_at dksX1_rivals_0 7 rfl rfl)
theorem dX1_rivals_10 : decode cX1_rivals 10 = .ok (.ifCond .ne 9, 3) := dk_154 0 9 (dk_at dksX1_rivals_0 10 rfl rfl)
theorem dX1_rivals_13 : decode cX1_rivals 13 = .ok (.aload_n 0, 1) := dk_42 (dk_at dksX1_rivals_0 13 rfl rfl)
theorem dX1_rivals_14 : decode cX1_rivals 14 = .ok (.iconst 1, 1) := dk_4 (dk_at dksX1_rivals_0 14 rfl rfl)
theorem dX1_rivals_15 : decode cX1_rivals 15 = .ok (.invokevirtual 90, 3) := dk_182 0 90 (dk_at dksX1_rivals_0 15 rfl rfl)
theorem dX1_rivals_18 : decode cX1_rivals 18 = .ok (.ireturn, 1) := dk_172 (dk_at dksX1_rivals_0 18 rfl rfl)
theorem dX1_rivals_19 : decode cX1_rivals 19 = .ok (.aload_n 0, 1) := dk_42 (dk_at dksX1_rivals_0 19 rfl rfl)
theorem dX1_rivals_20 : decode cX1_rivals 20 = .ok (.getfield 33, 3) := dk_180 0 33 (dk_at dksX1_rivals_0 20 rfl rfl)
theorem dX1_rivals_23 : decode cX1_rivals 23 = .ok (.iload_n 2, 1) := dk_28 (dk_at dksX1_rivals_0 23 rfl rfl)
theorem dX1_rivals_24 : decode cX1_rivals 24 = .ok (.invokevirtual 130, 3) := dk_182 0 130 (dk_at dksX1_rivals_1 0 rfl rfl)
theorem dX1_rivals_27 : decode cX1_rivals 27 = .ok (.ifCond .ne 9, 3) := dk_154 0 9 (dk_at dksX1_rivals_1 3 rfl rfl)
theorem dX1_rivals_30 : decode cX1_rivals 30 = .ok (.aload_n 0, 1) := dk_42 (dk_at dksX1_rivals_1 6 rfl rfl)
theorem dX1_rivals_31 : decode cX1_rivals 31 = .ok (.iconst 5, 1) := dk_8 (dk_at dksX1_rivals_1 7 rfl rfl)
theorem dX1_rivals_32 : decode cX1_rivals 32 = .ok (.invokevirtual 90, 3) := dk_182 0 90 (dk_at dksX1_rivals_1 8 rfl rfl)
theorem dX1_rivals_35 : decode cX1_rivals 35 = .ok (.ireturn, 1) := dk_172 (dk_at dksX1_rivals_1 11 rfl rfl)
theorem dX1_rivals_36 : decode cX1_rivals 36 = .ok (.aload_n 0, 1) := dk_42 (dk_at dksX1_rivals_1 12 rfl rfl)
theorem dX1_rivals_37 : decode cX1_rivals 37 = .ok (.getfield 33, 3) := dk_180 0 33 (dk_at dksX1_rivals_1 13 rfl rfl)
theorem dX1_rivals_40 : decode cX1_rivals 40 = .ok (.iload_n 1, 1) := dk_27 (dk_at dksX1_rivals_1 16 rfl rfl)
theorem dX1_rivals_41 : decode cX1_rivals 41 = .ok (.invokevirtual 130, 3) := dk_182 0 130 (dk_at dksX1_rivals_1 17 rfl rfl)
theorem dX1_rivals_44 : decode cX1_rivals 44 = .ok (.ifCond .eq 15, 3) := dk_153 0 15 (dk_at dksX1_rivals_1 20 rfl rfl)
theorem dX1_rivals_47 : decode cX1_rivals 47 = .ok (.aload_n 0, 1) := dk_42 (dk_at dksX1_rivals_1 23 rfl rfl)
theorem dX1_rivals_48 : decode cX1_rivals 48 = .ok (.getfield 33, 3) := dk_180 0 33 (dk_at dksX1_rivals_2 0 rfl rfl)
theorem dX1_rivals_51 : decode cX1_rivals 51 = .ok (.iload_n 1, 1) := dk_27 (dk_at dksX1_rivals_2 3 rfl rfl)
theorem dX1_rivals_52 : decode cX1_rivals 52 = .ok (.iload_n 2, 1) := dk_28 (dk_at dksX1_rivals_2 4 rfl rfl)
theorem dX1_rivals_53 : decode cX1_rivals 53 = .ok (.invokevirtual 171, 3) := dk_182 0 171 (dk_at dksX1_rivals_2 5 rfl rfl)
theorem dX1_rivals_56 : decode cX1_rivals 56 = .ok (.ifCond .ge 6, 3) := dk_156 0 6 (dk_at dksX1_rivals_2 8 rfl rfl)
theorem dX1_rivals_59 : decode cX1_rivals 59 = .ok (.bipush (-2), 2) := dk_16 254 (dk_at dksX1_rivals_2 11 rfl rfl)
theorem dX1_rivals_61 : decode cX1_rivals 61 = .ok (.ireturn, 1) := dk_172 (dk_at dksX1_rivals_2 13 rfl rfl)
theorem dX1_rivals_62 : decode cX1_rivals 62 = .ok (.iconst 0, 1) := dk_3 (dk_at dksX1_rivals_2 14 rfl rfl)
theorem dX1_rivals_63 : decode cX1_rivals 63 = .ok (.istore_n 3, 1) := dk_62 (dk_at dksX1_rivals_2 15 rfl rfl)
theorem dX1_rivals_64 : decode cX1_rivals 64 = .ok (.iconst 0, 1) := dk_3 (dk_at dksX1_rivals_2 16 rfl rfl)
theorem dX1_rivals_65 : decode cX1_rivals 65 = .ok (.istore 4, 2) := dk_54 4 (dk_at dksX1_rivals_2 17 rfl rfl)
theorem dX1_rivals_67 : decode cX1_rivals 67 = .ok (.iload 4, 2) := dk_21 4 (dk_at dksX1_rivals_2 19 rfl rfl)
theorem dX1_rivals_69 : decode cX1_rivals 69 = .ok (.aload_n 0, 1) := dk_42 (dk_at dksX1_rivals_2 21 rfl rfl)
theorem dX1_rivals_70 : decode cX1_rivals 70 = .ok (.getfield 101, 3) := dk_180 0 101 (dk_at dksX1_rivals_3 0 rfl rfl)
theorem dX1_rivals_73 : decode cX1_rivals 73 = .ok (.getfield 121, 3) := dk_180 0 121 (dk_at dksX1_rivals_3 3 rfl rfl)
theorem dX1_rivals_76 : decode cX1_rivals 76 = .ok (.if_icmp .ge 55, 3) := dk_162 0 55 (dk_at dksX1_rivals_3 6 rfl rfl)
theorem dX1_rivals_79 : decode cX1_rivals 79 = .ok (.iload_n 3, 1) := dk_29 (dk_at dksX1_rivals_3 9 rfl rfl)
theorem dX1_rivals_80 : decode cX1_rivals 80 = .ok (.iload 4, 2) := dk_21 4 (dk_at dksX1_rivals_3 10 rfl rfl)
theorem dX1_rivals_82 : decode cX1_rivals 82 = .ok (.iload_n 1, 1) := dk_27 (dk_at dksX1_rivals_3 12 rfl rfl)
theorem dX1_rivals_83 : decode cX1_rivals 83 = .ok (.if_icmp .eq 39, 3) := dk_159 0 39 (dk_at dksX1_rivals_3 13 rfl rfl)
theorem dX1_rivals_86 : decode cX1_rivals 86 = .ok (.iload 4, 2) := dk_21 4 (dk_at dksX1_rivals_3 16 rfl rfl)
theorem dX1_rivals_88 : decode cX1_rivals 88 = .ok (.iload_n 2, 1) := dk_28 (dk_at dksX1_rivals_3 18 rfl rfl)
theorem dX1_rivals_89 : decode cX1_rivals 89 = .ok (.if_icmp .eq 33, 3) := dk_159 0 33 (dk_at dksX1_rivals_3 19 rfl rfl)
theorem dX1_rivals_92 : decode cX1_rivals 92 = .ok (.aload_n 0, 1) := dk_42 (dk_at dksX1_rivals_3 22 rfl rfl)
theorem dX1_rivals_93 : decode cX1_rivals 93 = .ok (.getfield 33, 3) := dk_180 0 33 (dk_at dksX1_rivals_4 0 rfl rfl)
theorem dX1_rivals_96 : decode cX1_rivals 96 = .ok (.iload 4, 2) := dk_21 4 (dk_at dksX1_rivals_4 3 rfl rfl)
theorem dX1_rivals_98 : decode cX1_rivals 98 = .ok (.invokevirtual 130, 3) := dk_182 0 130 (dk_at dksX1_rivals_4 5 rfl rfl)
theorem dX1_rivals_101 : decode cX1_rivals 101 = .ok (.ifCond .eq 21, 3) := dk_153 0 21 (dk_at dksX1_rivals_4 8 rfl rfl)
theorem dX1_rivals_104 : decode cX1_rivals 104 = .ok (.aload_n 0, 1) := dk_42 (dk_at dksX1_rivals_4 11 rfl rfl)
theorem dX1_rivals_105 : decode cX1_rivals 105 = .ok (.iload 4, 2) := dk_21 4 (dk_at dksX1_rivals_4 12 rfl rfl)
theorem dX1_rivals_107 : decode cX1_rivals 107 = .ok (.iload_n 1, 1) := dk_27 (dk_at dksX1_rivals_4 14 rfl rfl)
theorem dX1_rivals_108 : decode cX1_rivals 108 = .ok (.iload_n 2, 1) := dk_28 (dk_at dksX1_rivals_4 15 rfl rfl)
theorem dX1_rivals_109 : decode cX1_rivals 109 = .ok (.invokevirtual 251, 3) := dk_182 0 251 (dk_at dksX1_rivals_4 16 rfl rfl)
theorem dX1_rivals_112 : decode cX1_rivals 112 = .ok (.ifCond .eq 10, 3) := dk_153 0 10 (dk_at dksX1_rivals_4 19 rfl rfl)
theorem dX1_rivals_115 : decode cX1_rivals 115 = .ok (.iconst 1, 1) := dk_4 (dk_at dksX1_rivals_4 22 rfl rfl)
theorem dX1_rivals_116 : decode cX1_rivals 116 = .ok (.iload 4, 2) := dk_21 4 (dk_at dksX1_rivals_5 0 rfl rfl)
theorem dX1_rivals_118 : decode cX1_rivals 118 = .ok (.ishl, 1) := dk_120 (dk_at dksX1_rivals_5 2 rfl rfl)
theorem dX1_rivals_119 : decode cX1_rivals 119 = .ok (.goto 4, 3) := dk_167 0 4 (dk_at dksX1_rivals_5 3 rfl rfl)
theorem dX1_rivals_122 : decode cX1_rivals 122 = .ok (.iconst 0, 1) := dk_3 (dk_at dksX1_rivals_5 6 rfl rfl)
theorem dX1_rivals_123 : decode cX1_rivals 123 = .ok (.ior, 1) := dk_128 (dk_at dksX1_rivals_5 7 rfl rfl)
theorem dX1_rivals_124 : decode cX1_rivals 124 = .ok (.istore_n 3, 1) := dk_62 (dk_at dksX1_rivals_5 8 rfl rfl)
theorem dX1_rivals_125 : decode cX1_rivals 125 = .ok (.iinc 4 1, 3) := dk_132 4 1 (dk_at dksX1_rivals_5 9 rfl rfl)
theorem dX1_rivals_128 : decode cX1_rivals 128 = .ok (.goto (-61), 3) := dk_167 255 195 (dk_at dksX1_rivals_5 12 rfl rfl)
theorem dX1_rivals_131 : decode cX1_rivals 131 = .ok (.iload_n 3, 1) := dk_29 (dk_at dksX1_rivals_5 15 rfl rfl)
theorem dX1_rivals_132 : decode cX1_rivals 132 = .ok (.ireturn, 1) := dk_172 (dk_at dksX1_rivals_5 16 rfl rfl)
abbrev cX1_isAhead : ByteArray := prog_1_method_48_code
def yX1_isAhead : MethodName := ⟨RX1, "isAhead", "(III)Z"⟩
def dkwX1_isAhead_1 : List UInt8 := [21, 5, 163, 0, 15, 21, 4, 21, 5, 160, 0, 12, 27, 28, 162, 0, 7, 4, 167, 0, 4, 3, 172]
abbrev dktX1_isAhead_1 : List UInt8 := dkwX1_isAhead_1 ++ []
def dkwX1_isAhead_0 : List UInt8 := [42, 180, 0, 33, 27, 29, 182, 0, 171, 54, 4, 42, 180, 0, 33, 28, 29, 182, 0, 171, 54, 5, 21, 4]
abbrev dktX1_isAhead_0 : List UInt8 := dkwX1_isAhead_0 ++ dktX1_isAhead_1
theorem dksX1_isAhead_0 : cX1_isAhead.data.toList.drop 0 = dktX1_isAhead_0 := by decide +kernel
theorem dksX1_isAhead_1 : cX1_isAhead.data.toList.drop 24 = dktX1_isAhead_1 := dk_seg dksX1_isAhead_0 24 rfl rfl
theorem dX1_isAhead_0 : decode cX1_isAhead 0 = .ok (.aload_n 0, 1) := dk_42 (dk_at dksX1_isAhead_0 0 rfl rfl)
theorem dX1_isAhead_1 : decode cX1_isAhead 1 = .ok (.getfield 33, 3) := dk_180 0 33 (dk_at dksX1_isAhead_0 1 rfl rfl)
theorem dX1_isAhead_4 : decode cX1_isAhead 4 = .ok (.iload_n 1, 1) := dk_27 (dk_at dksX1_isAhead_0 4 rfl rfl)
theorem dX1_isAhead_5 : decode cX1_isAhead 5 = .ok (.iload_n 3, 1) := dk_29 (dk_at dksX1_isAhead_0 5 rfl rfl)
theorem dX1_isAhead_6 : decode cX1_isAhead 6 = .ok (.invokevirtual 171, 3) := dk_182 0 171 (dk_at dksX1_isAhead_0 6 rfl rfl)
theorem dX1_isAhead_9 : decode cX1_isAhead 9 = .ok (.istore 4, 2) := dk_54 4 (dk_at dksX1_isAhead_0 9 rfl rfl)
theorem dX1_isAhead_11 : decode cX1_isAhead 11 = .ok (.aload_n 0, 1) := dk_42 (dk_at dksX1_isAhead_0 11 rfl rfl)
theorem dX1_isAhead_12 : decode cX1_isAhead 12 = .ok (.getfield 33, 3) := dk_180 0 33 (dk_at dksX1_isAhead_0 12 rfl rfl)
theorem dX1_isAhead_15 : decode cX1_isAhead 15 = .ok (.iload_n 2, 1) := dk_28 (dk_at dksX1_isAhead_0 15 rfl rfl)
theorem dX1_isAhead_16 : decode cX1_isAhead 16 = .ok (.iload_n 3, 1) := dk_29 (dk_at dksX1_isAhead_0 16 rfl rfl)
theorem dX1_isAhead_17 : decode cX1_isAhead 17 = .ok (.invokevirtual 171, 3) := dk_182 0 171 (dk_at dksX1_isAhead_0 17 rfl rfl)
theorem dX1_isAhead_20 : decode cX1_isAhead 20 = .ok (.istore 5, 2) := dk_54 5 (dk_at dksX1_isAhead_0 20 rfl rfl)
theorem dX1_isAhead_22 : decode cX1_isAhead 22 = .ok (.iload 4, 2) := dk_21 4 (dk_at dksX1_isAhead_0 22 rfl rfl)
theorem dX1_isAhead_24 : decode cX1_isAhead 24 = .ok (.iload 5, 2) := dk_21 5 (dk_at dksX1_isAhead_1 0 rfl rfl)
theorem dX1_isAhead_26 : decode cX1_isAhead 26 = .ok (.if_icmp .gt 15, 3) := dk_163 0 15 (dk_at dksX1_isAhead_1 2 rfl rfl)
theorem dX1_isAhead_29 : decode cX1_isAhead 29 = .ok (.iload 4, 2) := dk_21 4 (dk_at dksX1_isAhead_1 5 rfl rfl)
theorem dX1_isAhead_31 : decode cX1_isAhead 31 = .ok (.iload 5, 2) := dk_21 5 (dk_at dksX1_isAhead_1 7 rfl rfl)
theorem dX1_isAhead_33 : decode cX1_isAhead 33 = .ok (.if_icmp .ne 12, 3) := dk_160 0 12 (dk_at dksX1_isAhead_1 9 rfl rfl)
theorem dX1_isAhead_36 : decode cX1_isAhead 36 = .ok (.iload_n 1, 1) := dk_27 (dk_at dksX1_isAhead_1 12 rfl rfl)
theorem dX1_isAhead_37 : decode cX1_isAhead 37 = .ok (.iload_n 2, 1) := dk_28 (dk_at dksX1_isAhead_1 13 rfl rfl)
theorem dX1_isAhead_38 : decode cX1_isAhead 38 = .ok (.if_icmp .ge 7, 3) := dk_162 0 7 (dk_at dksX1_isAhead_1 14 rfl rfl)
theorem dX1_isAhead_41 : decode cX1_isAhead 41 = .ok (.iconst 1, 1) := dk_4 (dk_at dksX1_isAhead_1 17 rfl rfl)
theorem dX1_isAhead_42 : decode cX1_isAhead 42 = .ok (.goto 4, 3) := dk_167 0 4 (dk_at dksX1_isAhead_1 18 rfl rfl)
theorem dX1_isAhead_45 : decode cX1_isAhead 45 = .ok (.iconst 0, 1) := dk_3 (dk_at dksX1_isAhead_1 21 rfl rfl)
theorem dX1_isAhead_46 : decode cX1_isAhead 46 = .ok (.ireturn, 1) := dk_172 (dk_at dksX1_isAhead_1 22 rfl rfl)
abbrev cX1_fits : ByteArray := prog_1_method_54_code
def yX1_fits : MethodName := ⟨RX1, "fits", "()I"⟩
def dkwX1_fits_2 : List UInt8 := [132, 2, 1, 167, 255, 229, 27, 172]
abbrev dktX1_fits_2 : List UInt8 := dkwX1_fits_2 ++ []
def dkwX1_fits_1 : List UInt8 := [182, 1, 25, 162, 0, 25, 27, 42, 28, 182, 1, 28, 153, 0, 7, 4, 167, 0, 4, 3, 96, 60]
abbrev dktX1_fits_1 : List UInt8 := dkwX1_fits_1 ++ dktX1_fits_2
def dkwX1_fits_0 : List UInt8 := [42, 182, 0, 76, 42, 180, 0, 101, 199, 0, 9, 42, 4, 182, 0, 90, 172, 3, 60, 3, 61, 28, 42]
abbrev dktX1_fits_0 : List UInt8 := dkwX1_fits_0 ++ dktX1_fits_1
theorem dksX1_fits_0 : cX1_fits.data.toList.drop 0 = dktX1_fits_0 := by decide +kernel
theorem dksX1_fits_1 : cX1_fits.data.toList.drop 23 = dktX1_fits_1 := dk_seg dksX1_fits_0 23 rfl rfl
theorem dksX1_fits_2 : cX1_fits.data.toList.drop 45 = dktX1_fits_2 := dk_seg dksX1_fits_1 22 rfl rfl
theorem dX1_fits_0 : decode cX1_fits 0 = .ok (.aload_n 0, 1) := dk_42 (dk_at dksX1_fits_0 0 rfl rfl)
theorem dX1_fits_1 : decode cX1_fits 1 = .ok (.invokevirtual 76, 3) := dk_182 0 76 (dk_at dksX1_fits_0 1 rfl rfl)
theorem dX1_fits_4 : decode cX1_fits 4 = .ok (.aload_n 0, 1) := dk_42 (dk_at dksX1_fits_0 4 rfl rfl)
theorem dX1_fits_5 : decode cX1_fits 5 = .ok (.getfield 101, 3) := dk_180 0 101 (dk_at dksX1_fits_0 5 rfl rfl)
theorem dX1_fits_8 : decode cX1_fits 8 = .ok (.ifnonnull 9, 3) := dk_199 0 9 (dk_at dksX1_fits_0 8 rfl rfl)
theorem dX1_fits_11 : decode cX1_fits 11 = .ok (.aload_n 0, 1) := dk_42 (dk_at dksX1_fits_0 11 rfl rfl)
theorem dX1_fits_12 : decode cX1_fits 12 = .ok (.iconst 1, 1) := dk_4 (dk_at dksX1_fits_0 12 rfl rfl)
theorem dX1_fits_13 : decode cX1_fits 13 = .ok (.invokevirtual 90, 3) := dk_182 0 90 (dk_at dksX1_fits_0 13 rfl rfl)
theorem dX1_fits_16 : decode cX1_fits 16 = .ok (.ireturn, 1) := dk_172 (dk_at dksX1_fits_0 16 rfl rfl)
theorem dX1_fits_17 : decode cX1_fits 17 = .ok (.iconst 0, 1) := dk_3 (dk_at dksX1_fits_0 17 rfl rfl)
theorem dX1_fits_18 : decode cX1_fits 18 = .ok (.istore_n 1, 1) := dk_60 (dk_at dksX1_fits_0 18 rfl rfl)
theorem dX1_fits_19 : decode cX1_fits 19 = .ok (.iconst 0, 1) := dk_3 (dk_at dksX1_fits_0 19 rfl rfl)
theorem dX1_fits_20 : decode cX1_fits 20 = .ok (.istore_n 2, 1) := dk_61 (dk_at dksX1_fits_0 20 rfl rfl)
theorem dX1_fits_21 : decode cX1_fits 21 = .ok (.iload_n 2, 1) := dk_28 (dk_at dksX1_fits_0 21 rfl rfl)
theorem dX1_fits_22 : decode cX1_fits 22 = .ok (.aload_n 0, 1) := dk_42 (dk_at dksX1_fits_0 22 rfl rfl)
theorem dX1_fits_23 : decode cX1_fits 23 = .ok (.invokevirtual 281, 3) := dk_182 1 25 (dk_at dksX1_fits_1 0 rfl rfl)
theorem dX1_fits_26 : decode cX1_fits 26 = .ok (.if_icmp .ge 25, 3) := dk_162 0 25 (dk_at dksX1_fits_1 3 rfl rfl)
theorem dX1_fits_29 : decode cX1_fits 29 = .ok (.iload_n 1, 1) := dk_27 (dk_at dksX1_fits_1 6 rfl rfl)
theorem dX1_fits_30 : decode cX1_fits 30 = .ok (.aload_n 0, 1) := dk_42 (dk_at dksX1_fits_1 7 rfl rfl)
theorem dX1_fits_31 : decode cX1_fits 31 = .ok (.iload_n 2, 1) := dk_28 (dk_at dksX1_fits_1 8 rfl rfl)
theorem dX1_fits_32 : decode cX1_fits 32 = .ok (.invokevirtual 284, 3) := dk_182 1 28 (dk_at dksX1_fits_1 9 rfl rfl)
theorem dX1_fits_35 : decode cX1_fits 35 = .ok (.ifCond .eq 7, 3) := dk_153 0 7 (dk_at dksX1_fits_1 12 rfl rfl)
theorem dX1_fits_38 : decode cX1_fits 38 = .ok (.iconst 1, 1) := dk_4 (dk_at dksX1_fits_1 15 rfl rfl)
theorem dX1_fits_39 : decode cX1_fits 39 = .ok (.goto 4, 3) := dk_167 0 4 (dk_at dksX1_fits_1 16 rfl rfl)
theorem dX1_fits_42 : decode cX1_fits 42 = .ok (.iconst 0, 1) := dk_3 (dk_at dksX1_fits_1 19 rfl rfl)
theorem dX1_fits_43 : decode cX1_fits 43 = .ok (.iadd, 1) := dk_96 (dk_at dksX1_fits_1 20 rfl rfl)
theorem dX1_fits_44 : decode cX1_fits 44 = .ok (.istore_n 1, 1) := dk_60 (dk_at dksX1_fits_1 21 rfl rfl)
theorem dX1_fits_45 : decode cX1_fits 45 = .ok (.iinc 2 1, 3) := dk_132 2 1 (dk_at dksX1_fits_2 0 rfl rfl)
theorem dX1_fits_48 : decode cX1_fits 48 = .ok (.goto (-27), 3) := dk_167 255 229 (dk_at dksX1_fits_2 3 rfl rfl)
theorem dX1_fits_51 : decode cX1_fits 51 = .ok (.iload_n 1, 1) := dk_27 (dk_at dksX1_fits_2 6 rfl rfl)
theorem dX1_fits_52 : decode cX1_fits 52 = .ok (.ireturn, 1) := dk_172 (dk_at dksX1_fits_2 7 rfl rfl)
abbrev cX1_choices : ByteArray := prog_1_method_50_code
def yX1_choices : MethodName := ⟨RX1, "choices", "()I"⟩
def dkwX1_choices_1 : List UInt8 := [104, 60, 132, 2, 1, 167, 255, 231, 27, 172]
abbrev dktX1_choices_1 : List UInt8 := dkwX1_choices_1 ++ []
def dkwX1_choices_0 : List UInt8 := [4, 60, 3, 61, 28, 42, 180, 0, 101, 180, 0, 254, 162, 0, 20, 27, 42, 180, 0, 101, 28, 182, 1, 1]
abbrev dktX1_choices_0 : List UInt8 := dkwX1_choices_0 ++ dktX1_choices_1
theorem dksX1_choices_0 : cX1_choices.data.toList.drop 0 = dktX1_choices_0 := by decide +kernel
theorem dksX1_choices_1 : cX1_choices.data.toList.drop 24 = dktX1_choices_1 := dk_seg dksX1_choices_0 24 rfl rfl
theorem dX1_choices_0 : decode cX1_choices 0 = .ok (.iconst 1, 1) := dk_4 (dk_at dksX1_choices_0 0 rfl rfl)
theorem dX1_choices_1 : decode cX1_choices 1 = .ok (.istore_n 1, 1) := dk_60 (dk_at dksX1_choices_0 1 rfl rfl)
theorem dX1_choices_2 : decode cX1_choices 2 = .ok (.iconst 0, 1) := dk_3 (dk_at dksX1_choices_0 2 rfl rfl)
theorem dX1_choices_3 : decode cX1_choices 3 = .ok (.istore_n 2, 1) := dk_61 (dk_at dksX1_choices_0 3 rfl rfl)
theorem dX1_choices_4 : decode cX1_choices 4 = .ok (.iload_n 2, 1) := dk_28 (dk_at dksX1_choices_0 4 rfl rfl)
theorem dX1_choices_5 : decode cX1_choices 5 = .ok (.aload_n 0, 1) := dk_42 (dk_at dksX1_choices_0 5 rfl rfl)
theorem dX1_choices_6 : decode cX1_choices 6 = .ok (.getfield 101, 3) := dk_180 0 101 (dk_at dksX1_choices_0 6 rfl rfl)
theorem dX1_choices_9 : decode cX1_choices 9 = .ok (.getfield 254, 3) := dk_180 0 254 (dk_at dksX1_choices_0 9 rfl rfl)
theorem dX1_choices_12 : decode cX1_choices 12 = .ok (.if_icmp .ge 20, 3) := dk_162 0 20 (dk_at dksX1_choices_0 12 rfl rfl)
theorem dX1_choices_15 : decode cX1_choices 15 = .ok (.iload_n 1, 1) := dk_27 (dk_at dksX1_choices_0 15 rfl rfl)
theorem dX1_choices_16 : decode cX1_choices 16 = .ok (.aload_n 0, 1) := dk_42 (dk_at dksX1_choices_0 16 rfl rfl)
theorem dX1_choices_17 : decode cX1_choices 17 = .ok (.getfield 101, 3) := dk_180 0 101 (dk_at dksX1_choices_0 17 rfl rfl)
theorem dX1_choices_20 : decode cX1_choices 20 = .ok (.iload_n 2, 1) := dk_28 (dk_at dksX1_choices_0 20 rfl rfl)
theorem dX1_choices_21 : decode cX1_choices 21 = .ok (.invokevirtual 257, 3) := dk_182 1 1 (dk_at dksX1_choices_0 21 rfl rfl)
theorem dX1_choices_24 : decode cX1_choices 24 = .ok (.imul, 1) := dk_104 (dk_at dksX1_choices_1 0 rfl rfl)
theorem dX1_choices_25 : decode cX1_choices 25 = .ok (.istore_n 1, 1) := dk_60 (dk_at dksX1_choices_1 1 rfl rfl)
theorem dX1_choices_26 : decode cX1_choices 26 = .ok (.iinc 2 1, 3) := dk_132 2 1 (dk_at dksX1_choices_1 2 rfl rfl)
theorem dX1_choices_29 : decode cX1_choices 29 = .ok (.goto (-25), 3) := dk_167 255 231 (dk_at dksX1_choices_1 5 rfl rfl)
theorem dX1_choices_32 : decode cX1_choices 32 = .ok (.iload_n 1, 1) := dk_27 (dk_at dksX1_choices_1 8 rfl rfl)
theorem dX1_choices_33 : decode cX1_choices 33 = .ok (.ireturn, 1) := dk_172 (dk_at dksX1_choices_1 9 rfl rfl)
abbrev cX1_doesFit : ByteArray := prog_1_method_53_code
def yX1_doesFit : MethodName := ⟨RX1, "doesFit", "(I)Z"⟩
def dkwX1_doesFit_3 : List UInt8 := [79, 132, 2, 1, 167, 255, 197, 42, 182, 1, 22, 16, 254, 160, 0, 7, 4, 167, 0, 4, 3, 172]
abbrev dktX1_doesFit_3 : List UInt8 := dkwX1_doesFit_3 ++ []
def dkwX1_doesFit_2 : List UInt8 := [180, 0, 101, 180, 1, 13, 28, 46, 96, 42, 180, 0, 101, 28, 182, 1, 16, 42, 27, 28, 182, 1, 19, 96]
abbrev dktX1_doesFit_2 : List UInt8 := dkwX1_doesFit_2 ++ dktX1_doesFit_3
def dkwX1_doesFit_1 : List UInt8 := [162, 0, 54, 42, 180, 0, 40, 180, 1, 7, 16, 6, 42, 180, 0, 101, 180, 1, 10, 28, 46, 104, 42]
abbrev dktX1_doesFit_1 : List UInt8 := dkwX1_doesFit_1 ++ dktX1_doesFit_2
def dkwX1_doesFit_0 : List UInt8 := [42, 180, 0, 40, 42, 180, 0, 101, 182, 0, 111, 87, 3, 61, 28, 42, 180, 0, 101, 180, 0, 254]
abbrev dktX1_doesFit_0 : List UInt8 := dkwX1_doesFit_0 ++ dktX1_doesFit_1
theorem dksX1_doesFit_0 : cX1_doesFit.data.toList.drop 0 = dktX1_doesFit_0 := by decide +kernel
theorem dksX1_doesFit_1 : cX1_doesFit.data.toList.drop 22 = dktX1_doesFit_1 := dk_seg dksX1_doesFit_0 22 rfl rfl
theorem dksX1_doesFit_2 : cX1_doesFit.data.toList.drop 45 = dktX1_doesFit_2 := dk_seg dksX1_doesFit_1 23 rfl rfl
theorem dksX1_doesFit_3 : cX1_doesFit.data.toList.drop 69 = dktX1_doesFit_3 := dk_seg dksX1_doesFit_2 24 rfl rfl
theorem dX1_doesFit_0 : decode cX1_doesFit 0 = .ok (.aload_n 0, 1) := dk_42 (dk_at dksX1_doesFit_0 0 rfl rfl)
theorem dX1_doesFit_1 : decode cX1_doesFit 1 = .ok (.getfield 40, 3) := dk_180 0 40 (dk_at dksX1_doesFit_0 1 rfl rfl)
theorem dX1_doesFit_4 : decode cX1_doesFit 4 = .ok (.aload_n 0, 1) := dk_42 (dk_at dksX1_doesFit_0 4 rfl rfl)
theorem dX1_doesFit_5 : decode cX1_doesFit 5 = .ok (.getfield 101, 3) := dk_180 0 101 (dk_at dksX1_doesFit_0 5 rfl rfl)
theorem dX1_doesFit_8 : decode cX1_doesFit 8 = .ok (.invokevirtual 111, 3) := dk_182 0 111 (dk_at dksX1_doesFit_0 8 rfl rfl)
theorem dX1_doesFit_11 : decode cX1_doesFit 11 = .ok (.pop, 1) := dk_87 (dk_at dksX1_doesFit_0 11 rfl rfl)
theorem dX1_doesFit_12 : decode cX1_doesFit 12 = .ok (.iconst 0, 1) := dk_3 (dk_at dksX1_doesFit_0 12 rfl rfl)
theorem dX1_doesFit_13 : decode cX1_doesFit 13 = .ok (.istore_n 2, 1) := dk_61 (dk_at dksX1_doesFit_0 13 rfl rfl)
theorem dX1_doesFit_14 : decode cX1_doesFit 14 = .ok (.iload_n 2, 1) := dk_28 (dk_at dksX1_doesFit_0 14 rfl rfl)
theorem dX1_doesFit_15 : decode cX1_doesFit 15 = .ok (.aload_n 0, 1) := dk_42 (dk_at dksX1_doesFit_0 15 rfl rfl)
theorem dX1_doesFit_16 : decode cX1_doesFit 16 = .ok (.getfield 101, 3) := dk_180 0 101 (dk_at dksX1_doesFit_0 16 rfl rfl)
theorem dX1_doesFit_19 : decode cX1_doesFit 19 = .ok (.getfield 254, 3) := dk_180 0 254 (dk_at dksX1_doesFit_0 19 rfl rfl)
theorem dX1_doesFit_22 : decode cX1_doesFit 22 = .ok (.if_icmp .ge 54, 3) := dk_162 0 54 (dk_at dksX1_doesFit_1 0 rfl rfl)
theorem dX1_doesFit_25 : decode cX1_doesFit 25 = .ok (.aload_n 0, 1) := dk_42 (dk_at dksX1_doesFit_1 3 rfl rfl)
theorem dX1_doesFit_26 : decode cX1_doesFit 26 = .ok (.getfield 40, 3) := dk_180 0 40 (dk_at dksX1_doesFit_1 4 rfl rfl)
theorem dX1_doesFit_29 : decode cX1_doesFit 29 = .ok (.getfield 263, 3) := dk_180 1 7 (dk_at dksX1_doesFit_1 7 rfl rfl)
theorem dX1_doesFit_32 : decode cX1_doesFit 32 = .ok (.bipush 6, 2) := dk_16 6 (dk_at dksX1_doesFit_1 10 rfl rfl)
theorem dX1_doesFit_34 : decode cX1_doesFit 34 = .ok (.aload_n 0, 1) := dk_42 (dk_at dksX1_doesFit_1 12 rfl rfl)
theorem dX1_doesFit_35 : decode cX1_doesFit 35 = .ok (.getfield 101, 3) := dk_180 0 101 (dk_at dksX1_doesFit_1 13 rfl rfl)
theorem dX1_doesFit_38 : decode cX1_doesFit 38 = .ok (.getfield 266, 3) := dk_180 1 10 (dk_at dksX1_doesFit_1 16 rfl rfl)
theorem dX1_doesFit_41 : decode cX1_doesFit 41 = .ok (.iload_n 2, 1) := dk_28 (dk_at dksX1_doesFit_1 19 rfl rfl)
theorem dX1_doesFit_42 : decode cX1_doesFit 42 = .ok (.iaload, 1) := dk_46 (dk_at dksX1_doesFit_1 20 rfl rfl)
theorem dX1_doesFit_43 : decode cX1_doesFit 43 = .ok (.imul, 1) := dk_104 (dk_at dksX1_doesFit_1 21 rfl rfl)
theorem dX1_doesFit_44 : decode cX1_doesFit 44 = .ok (.aload_n 0, 1) := dk_42 (dk_at dksX1_doesFit_1 22 rfl rfl)
theorem dX1_doesFit_45 : decode cX1_doesFit 45 = .ok (.getfield 101, 3) := dk_180 0 101 (dk_at dksX1_doesFit_2 0 rfl rfl)
theorem dX1_doesFit_48 : decode cX1_doesFit 48 = .ok (.getfield 269, 3) := dk_180 1 13 (dk_at dksX1_doesFit_2 3 rfl rfl)
theorem dX1_doesFit_51 : decode cX1_doesFit 51 = .ok (.iload_n 2, 1) := dk_28 (dk_at dksX1_doesFit_2 6 rfl rfl)
theorem dX1_doesFit_52 : decode cX1_doesFit 52 = .ok (.iaload, 1) := dk_46 (dk_at dksX1_doesFit_2 7 rfl rfl)
theorem dX1_doesFit_53 : decode cX1_doesFit 53 = .ok (.iadd, 1) := dk_96 (dk_at dksX1_doesFit_2 8 rfl rfl)
theorem dX1_doesFit_54 : decode cX1_doesFit 54 = .ok (.aload_n 0, 1) := dk_42 (dk_at dksX1_doesFit_2 9 rfl rfl)
theorem dX1_doesFit_55 : decode cX1_doesFit 55 = .ok (.getfield 101, 3) := dk_180 0 101 (dk_at dksX1_doesFit_2 10 rfl rfl)
theorem dX1_doesFit_58 : decode cX1_doesFit 58 = .ok (.iload_n 2, 1) := dk_28 (dk_at dksX1_doesFit_2 13 rfl rfl)
theorem dX1_doesFit_59 : decode cX1_doesFit 59 = .ok (.invokevirtual 272, 3) := dk_182 1 16 (dk_at dksX1_doesFit_2 14 rfl rfl)
theorem dX1_doesFit_62 : decode cX1_doesFit 62 = .ok (.aload_n 0, 1) := dk_42 (dk_at dksX1_doesFit_2 17 rfl rfl)
theorem dX1_doesFit_63 : decode cX1_doesFit 63 = .ok (.iload_n 1, 1) := dk_27 (dk_at dksX1_doesFit_2 18 rfl rfl)
theorem dX1_doesFit_64 : decode cX1_doesFit 64 = .ok (.iload_n 2, 1) := dk_28 (dk_at dksX1_doesFit_2 19 rfl rfl)
theorem dX1_doesFit_65 : decode cX1_doesFit 65 = .ok (.invokevirtual 275, 3) := dk_182 1 19 (dk_at dksX1_doesFit_2 20 rfl rfl)
theorem dX1_doesFit_68 : decode cX1_doesFit 68 = .ok (.iadd, 1) := dk_96 (dk_at dksX1_doesFit_2 23 rfl rfl)
theorem dX1_doesFit_69 : decode cX1_doesFit 69 = .ok (.iastore, 1) := dk_79 (dk_at dksX1_doesFit_3 0 rfl rfl)
theorem dX1_doesFit_70 : decode cX1_doesFit 70 = .ok (.iinc 2 1, 3) := dk_132 2 1 (dk_at dksX1_doesFit_3 1 rfl rfl)
theorem dX1_doesFit_73 : decode cX1_doesFit 73 = .ok (.goto (-59), 3) := dk_167 255 197 (dk_at dksX1_doesFit_3 4 rfl rfl)
theorem dX1_doesFit_76 : decode cX1_doesFit 76 = .ok (.aload_n 0, 1) := dk_42 (dk_at dksX1_doesFit_3 7 rfl rfl)
theorem dX1_doesFit_77 : decode cX1_doesFit 77 = .ok (.invokevirtual 278, 3) := dk_182 1 22 (dk_at dksX1_doesFit_3 8 rfl rfl)
theorem dX1_doesFit_80 : decode cX1_doesFit 80 = .ok (.bipush (-2), 2) := dk_16 254 (dk_at dksX1_doesFit_3 11 rfl rfl)
theorem dX1_doesFit_82 : decode cX1_doesFit 82 = .ok (.if_icmp .ne 7, 3) := dk_160 0 7 (dk_at dksX1_doesFit_3 13 rfl rfl)
theorem dX1_doesFit_85 : decode cX1_doesFit 85 = .ok (.iconst 1, 1) := dk_4 (dk_at dksX1_doesFit_3 16 rfl rfl)
theorem dX1_doesFit_86 : decode cX1_doesFit 86 = .ok (.goto 4, 3) := dk_167 0 4 (dk_at dksX1_doesFit_3 17 rfl rfl)
theorem dX1_doesFit_89 : decode cX1_doesFit 89 = .ok (.iconst 0, 1) := dk_3 (dk_at dksX1_doesFit_3 20 rfl rfl)
theorem dX1_doesFit_90 : decode cX1_doesFit 90 = .ok (.ireturn, 1) := dk_172 (dk_at dksX1_doesFit_3 21 rfl rfl)
abbrev cX1_choice : ByteArray := prog_1_method_51_code
def yX1_choice : MethodName := ⟨RX1, "choice", "(II)I"⟩
def dkwX1_choice_1 : List UInt8 := [21, 4, 182, 1, 1, 108, 62, 132, 4, 255, 167, 255, 235, 29, 42, 180, 0, 101, 28, 182, 1, 1, 112, 172]
abbrev dktX1_choice_1 : List UInt8 := dkwX1_choice_1 ++ []
def dkwX1_choice_0 : List UInt8 := [27, 62, 42, 180, 0, 101, 180, 0, 254, 4, 100, 54, 4, 21, 4, 28, 164, 0, 21, 29, 42, 180, 0, 101]
abbrev dktX1_choice_0 : List UInt8 := dkwX1_choice_0 ++ dktX1_choice_1
theorem dksX1_choice_0 : cX1_choice.data.toList.drop 0 = dktX1_choice_0 := by decide +kernel
theorem dksX1_choice_1 : cX1_choice.data.toList.drop 24 = dktX1_choice_1 := dk_seg dksX1_choice_0 24 rfl rfl
theorem dX1_choice_0 : decode cX1_choice 0 = .ok (.iload_n 1, 1) := dk_27 (dk_at dksX1_choice_0 0 rfl rfl)
theorem dX1_choice_1 : decode cX1_choice 1 = .ok (.istore_n 3, 1) := dk_62 (dk_at dksX1_choice_0 1 rfl rfl)
theorem dX1_choice_2 : decode cX1_choice 2 = .ok (.aload_n 0, 1) := dk_42 (dk_at dksX1_choice_0 2 rfl rfl)
theorem dX1_choice_3 : decode cX1_choice 3 = .ok (.getfield 101, 3) := dk_180 0 101 (dk_at dksX1_choice_0 3 rfl rfl)
theorem dX1_choice_6 : decode cX1_choice 6 = .ok (.getfield 254, 3) := dk_180 0 254 (dk_at dksX1_choice_0 6 rfl rfl)
theorem dX1_choice_9 : decode cX1_choice 9 = .ok (.iconst 1, 1) := dk_4 (dk_at dksX1_choice_0 9 rfl rfl)
theorem dX1_choice_10 : decode cX1_choice 10 = .ok (.isub, 1) := dk_100 (dk_at dksX1_choice_0 10 rfl rfl)
theorem dX1_choice_11 : decode cX1_choice 11 = .ok (.istore 4, 2) := dk_54 4 (dk_at dksX1_choice_0 11 rfl rfl)
theorem dX1_choice_13 : decode cX1_choice 13 = .ok (.iload 4, 2) := dk_21 4 (dk_at dksX1_choice_0 13 rfl rfl)
theorem dX1_choice_15 : decode cX1_choice 15 = .ok (.iload_n 2, 1) := dk_28 (dk_at dksX1_choice_0 15 rfl rfl)
theorem dX1_choice_16 : decode cX1_choice 16 = .ok (.if_icmp .le 21, 3) := dk_164 0 21 (dk_at dksX1_choice_0 16 rfl rfl)
theorem dX1_choice_19 : decode cX1_choice 19 = .ok (.iload_n 3, 1) := dk_29 (dk_at dksX1_choice_0 19 rfl rfl)
theorem dX1_choice_20 : decode cX1_choice 20 = .ok (.aload_n 0, 1) := dk_42 (dk_at dksX1_choice_0 20 rfl rfl)
theorem dX1_choice_21 : decode cX1_choice 21 = .ok (.getfield 101, 3) := dk_180 0 101 (dk_at dksX1_choice_0 21 rfl rfl)
theorem dX1_choice_24 : decode cX1_choice 24 = .ok (.iload 4, 2) := dk_21 4 (dk_at dksX1_choice_1 0 rfl rfl)
theorem dX1_choice_26 : decode cX1_choice 26 = .ok (.invokevirtual 257, 3) := dk_182 1 1 (dk_at dksX1_choice_1 2 rfl rfl)
theorem dX1_choice_29 : decode cX1_choice 29 = .ok (.idiv, 1) := dk_108 (dk_at dksX1_choice_1 5 rfl rfl)
theorem dX1_choice_30 : decode cX1_choice 30 = .ok (.istore_n 3, 1) := dk_62 (dk_at dksX1_choice_1 6 rfl rfl)
theorem dX1_choice_31 : decode cX1_choice 31 = .ok (.iinc 4 (-1), 3) := dk_132 4 255 (dk_at dksX1_choice_1 7 rfl rfl)
theorem dX1_choice_34 : decode cX1_choice 34 = .ok (.goto (-21), 3) := dk_167 255 235 (dk_at dksX1_choice_1 10 rfl rfl)
theorem dX1_choice_37 : decode cX1_choice 37 = .ok (.iload_n 3, 1) := dk_29 (dk_at dksX1_choice_1 13 rfl rfl)
theorem dX1_choice_38 : decode cX1_choice 38 = .ok (.aload_n 0, 1) := dk_42 (dk_at dksX1_choice_1 14 rfl rfl)
theorem dX1_choice_39 : decode cX1_choice 39 = .ok (.getfield 101, 3) := dk_180 0 101 (dk_at dksX1_choice_1 15 rfl rfl)
theorem dX1_choice_42 : decode cX1_choice 42 = .ok (.iload_n 2, 1) := dk_28 (dk_at dksX1_choice_1 18 rfl rfl)
theorem dX1_choice_43 : decode cX1_choice 43 = .ok (.invokevirtual 257, 3) := dk_182 1 1 (dk_at dksX1_choice_1 19 rfl rfl)
theorem dX1_choice_46 : decode cX1_choice 46 = .ok (.irem, 1) := dk_112 (dk_at dksX1_choice_1 22 rfl rfl)
theorem dX1_choice_47 : decode cX1_choice 47 = .ok (.ireturn, 1) := dk_172 (dk_at dksX1_choice_1 23 rfl rfl)
abbrev cX1_wrong : ByteArray := prog_1_method_52_code
def yX1_wrong : MethodName := ⟨RX1, "wrong", "()I"⟩
def dkwX1_wrong_2 : List UInt8 := [180, 1, 4, 159, 0, 5, 27, 172, 132, 1, 1, 167, 255, 201, 16, 254, 172]
abbrev dktX1_wrong_2 : List UInt8 := dkwX1_wrong_2 ++ []
def dkwX1_wrong_1 : List UInt8 := [180, 1, 4, 2, 159, 0, 28, 42, 180, 0, 40, 27, 182, 0, 178, 42, 180, 0, 101, 180, 0, 144, 27, 50]
abbrev dktX1_wrong_1 : List UInt8 := dkwX1_wrong_1 ++ dktX1_wrong_2
def dkwX1_wrong_0 : List UInt8 := [3, 60, 27, 42, 180, 0, 101, 180, 0, 121, 162, 0, 50, 42, 180, 0, 101, 180, 0, 144, 27, 50]
abbrev dktX1_wrong_0 : List UInt8 := dkwX1_wrong_0 ++ dktX1_wrong_1
theorem dksX1_wrong_0 : cX1_wrong.data.toList.drop 0 = dktX1_wrong_0 := by decide +kernel
theorem dksX1_wrong_1 : cX1_wrong.data.toList.drop 22 = dktX1_wrong_1 := dk_seg dksX1_wrong_0 22 rfl rfl
theorem dksX1_wrong_2 : cX1_wrong.data.toList.drop 46 = dktX1_wrong_2 := dk_seg dksX1_wrong_1 24 rfl rfl
theorem dX1_wrong_0 : decode cX1_wrong 0 = .ok (.iconst 0, 1) := dk_3 (dk_at dksX1_wrong_0 0 rfl rfl)
theorem dX1_wrong_1 : decode cX1_wrong 1 = .ok (.istore_n 1, 1) := dk_60 (dk_at dksX1_wrong_0 1 rfl rfl)
theorem dX1_wrong_2 : decode cX1_wrong 2 = .ok (.iload_n 1, 1) := dk_27 (dk_at dksX1_wrong_0 2 rfl rfl)
theorem dX1_wrong_3 : decode cX1_wrong 3 = .ok (.aload_n 0, 1) := dk_42 (dk_at dksX1_wrong_0 3 rfl rfl)
theorem dX1_wrong_4 : decode cX1_wrong 4 = .ok (.getfield 101, 3) := dk_180 0 101 (dk_at dksX1_wrong_0 4 rfl rfl)
theorem dX1_wrong_7 : decode cX1_wrong 7 = .ok (.getfield 121, 3) := dk_180 0 121 (dk_at dksX1_wrong_0 7 rfl rfl)
theorem dX1_wrong_10 : decode cX1_wrong 10 = .ok (.if_icmp .ge 50, 3) := dk_162 0 50 (dk_at dksX1_wrong_0 10 rfl rfl)
theorem dX1_wrong_13 : decode cX1_wrong 13 = .ok (.aload_n 0, 1) := dk_42 (dk_at dksX1_wrong_0 13 rfl rfl)
theorem dX1_wrong_14 : decode cX1_wrong 14 = .ok (.getfield 101, 3) := dk_180 0 101 (dk_at dksX1_wrong_0 14 rfl rfl)
theorem dX1_wrong_17 : decode cX1_wrong 17 = .ok (.getfield 144, 3) := dk_180 0 144 (dk_at dksX1_wrong_0 17 rfl rfl)
theorem dX1_wrong_20 : decode cX1_wrong 20 = .ok (.iload_n 1, 1) := dk_27 (dk_at dksX1_wrong_0 20 rfl rfl)
theorem dX1_wrong_21 : decode cX1_wrong 21 = .ok (.aaload, 1) := dk_50 (dk_at dksX1_wrong_0 21 rfl rfl)
theorem dX1_wrong_22 : decode cX1_wrong 22 = .ok (.getfield 260, 3) := dk_180 1 4 (dk_at dksX1_wrong_1 0 rfl rfl)
theorem dX1_wrong_25 : decode cX1_wrong 25 = .ok (.iconst (-1), 1) := dk_2 (dk_at dksX1_wrong_1 3 rfl rfl)
theorem dX1_wrong_26 : decode cX1_wrong 26 = .ok (.if_icmp .eq 28, 3) := dk_159 0 28 (dk_at dksX1_wrong_1 4 rfl rfl)
theorem dX1_wrong_29 : decode cX1_wrong 29 = .ok (.aload_n 0, 1) := dk_42 (dk_at dksX1_wrong_1 7 rfl rfl)
theorem dX1_wrong_30 : decode cX1_wrong 30 = .ok (.getfield 40, 3) := dk_180 0 40 (dk_at dksX1_wrong_1 8 rfl rfl)
theorem dX1_wrong_33 : decode cX1_wrong 33 = .ok (.iload_n 1, 1) := dk_27 (dk_at dksX1_wrong_1 11 rfl rfl)
theorem dX1_wrong_34 : decode cX1_wrong 34 = .ok (.invokevirtual 178, 3) := dk_182 0 178 (dk_at dksX1_wrong_1 12 rfl rfl)
theorem dX1_wrong_37 : decode cX1_wrong 37 = .ok (.aload_n 0, 1) := dk_42 (dk_at dksX1_wrong_1 15 rfl rfl)
theorem dX1_wrong_38 : decode cX1_wrong 38 = .ok (.getfield 101, 3) := dk_180 0 101 (dk_at dksX1_wrong_1 16 rfl rfl)
theorem dX1_wrong_41 : decode cX1_wrong 41 = .ok (.getfield 144, 3) := dk_180 0 144 (dk_at dksX1_wrong_1 19 rfl rfl)
theorem dX1_wrong_44 : decode cX1_wrong 44 = .ok (.iload_n 1, 1) := dk_27 (dk_at dksX1_wrong_1 22 rfl rfl)
theorem dX1_wrong_45 : decode cX1_wrong 45 = .ok (.aaload, 1) := dk_50 (dk_at dksX1_wrong_1 23 rfl rfl)
theorem dX1_wrong_46 : decode cX1_wrong 46 = .ok (.getfield 260, 3) := dk_180 1 4 (dk_at dksX1_wrong_2 0 rfl rfl)
theorem dX1_wrong_49 : decode cX1_wrong 49 = .ok (.if_icmp .eq 5, 3) := dk_159 0 5 (dk_at dksX1_wrong_2 3 rfl rfl)
theorem dX1_wrong_52 : decode cX1_wrong 52 = .ok (.iload_n 1, 1) := dk_27 (dk_at dksX1_wrong_2 6 rfl rfl)
theorem dX1_wrong_53 : decode cX1_wrong 53 = .ok (.ireturn, 1) := dk_172 (dk_at dksX1_wrong_2 7 rfl rfl)
theorem dX1_wrong_54 : decode cX1_wrong 54 = .ok (.iinc 1 1, 3) := dk_132 1 1 (dk_at dksX1_wrong_2 8 rfl rfl)
theorem dX1_wrong_57 : decode cX1_wrong 57 = .ok (.goto (-55), 3) := dk_167 255 201 (dk_at dksX1_wrong_2 11 rfl rfl)
theorem dX1_wrong_60 : decode cX1_wrong 60 = .ok (.bipush (-2), 2) := dk_16 254 (dk_at dksX1_wrong_2 14 rfl rfl)
theorem dX1_wrong_62 : decode cX1_wrong 62 = .ok (.ireturn, 1) := dk_172 (dk_at dksX1_wrong_2 16 rfl rfl)
abbrev cX1_fitAt : ByteArray := prog_1_method_55_code
def yX1_fitAt : MethodName := ⟨RX1, "fitAt", "(II)I"⟩
def dkwX1_fitAt_4 : List UInt8 := [182, 0, 90, 172]
abbrev dktX1_fitAt_4 : List UInt8 := dkwX1_fitAt_4 ++ []
def dkwX1_fitAt_3 : List UInt8 := [28, 182, 1, 16, 42, 21, 4, 28, 182, 1, 19, 96, 172, 132, 3, 1, 132, 4, 1, 167, 255, 207, 42, 4]
abbrev dktX1_fitAt_3 : List UInt8 := dkwX1_fitAt_3 ++ dktX1_fitAt_4
def dkwX1_fitAt_2 : List UInt8 := [162, 0, 46, 42, 21, 4, 182, 1, 28, 154, 0, 6, 167, 0, 28, 29, 27, 160, 0, 20, 42, 180, 0, 101]
abbrev dktX1_fitAt_2 : List UInt8 := dkwX1_fitAt_2 ++ dktX1_fitAt_3
def dkwX1_fitAt_1 : List UInt8 := [184, 0, 86, 154, 0, 9, 42, 4, 182, 0, 90, 172, 3, 62, 3, 54, 4, 21, 4, 42, 182, 1, 25]
abbrev dktX1_fitAt_1 : List UInt8 := dkwX1_fitAt_1 ++ dktX1_fitAt_2
def dkwX1_fitAt_0 : List UInt8 := [42, 182, 0, 76, 42, 180, 0, 101, 198, 0, 20, 28, 3, 42, 180, 0, 101, 180, 0, 254, 4, 100]
abbrev dktX1_fitAt_0 : List UInt8 := dkwX1_fitAt_0 ++ dktX1_fitAt_1
theorem dksX1_fitAt_0 : cX1_fitAt.data.toList.drop 0 = dktX1_fitAt_0 := by decide +kernel
theorem dksX1_fitAt_1 : cX1_fitAt.data.toList.drop 22 = dktX1_fitAt_1 := dk_seg dksX1_fitAt_0 22 rfl rfl
theorem dksX1_fitAt_2 : cX1_fitAt.data.toList.drop 45 = dktX1_fitAt_2 := dk_seg dksX1_fitAt_1 23 rfl rfl
theorem dksX1_fitAt_3 : cX1_fitAt.data.toList.drop 69 = dktX1_fitAt_3 := dk_seg dksX1_fitAt_2 24 rfl rfl
theorem dksX1_fitAt_4 : cX1_fitAt.data.toList.drop 93 = dktX1_fitAt_4 := dk_seg dksX1_fitAt_3 24 rfl rfl
theorem dX1_fitAt_0 : decode cX1_fitAt 0 = .ok (.aload_n 0, 1) := dk_42 (dk_at dksX1_fitAt_0 0 rfl rfl)
theorem dX1_fitAt_1 : decode cX1_fitAt 1 = .ok (.invokevirtual 76, 3) := dk_182 0 76 (dk_at dksX1_fitAt_0 1 rfl rfl)
theorem dX1_fitAt_4 : decode cX1_fitAt 4 = .ok (.aload_n 0, 1) := dk_42 (dk_at dksX1_fitAt_0 4 rfl rfl)
theorem dX1_fitAt_5 : decode cX1_fitAt 5 = .ok (.getfield 101, 3) := dk_180 0 101 (dk_at dksX1_fitAt_0 5 rfl rfl)
theorem dX1_fitAt_8 : decode cX1_fitAt 8 = .ok (.ifnull 20, 3) := dk_198 0 20 (dk_at dksX1_fitAt_0 8 rfl rfl)
theorem dX1_fitAt_11 : decode cX1_fitAt 11 = .ok (.iload_n 2, 1) := dk_28 (dk_at dksX1_fitAt_0 11 rfl rfl)
theorem dX1_fitAt_12 : decode cX1_fitAt 12 = .ok (.iconst 0, 1) := dk_3 (dk_at dksX1_fitAt_0 12 rfl rfl)
theorem dX1_fitAt_13 : decode cX1_fitAt 13 = .ok (.aload_n 0, 1) := dk_42 (dk_at dksX1_fitAt_0 13 rfl rfl)
theorem dX1_fitAt_14 : decode cX1_fitAt 14 = .ok (.getfield 101, 3) := dk_180 0 101 (dk_at dksX1_fitAt_0 14 rfl rfl)
theorem dX1_fitAt_17 : decode cX1_fitAt 17 = .ok (.getfield 254, 3) := dk_180 0 254 (dk_at dksX1_fitAt_0 17 rfl rfl)
theorem dX1_fitAt_20 : decode cX1_fitAt 20 = .ok (.iconst 1, 1) := dk_4 (dk_at dksX1_fitAt_0 20 rfl rfl)
theorem dX1_fitAt_21 : decode cX1_fitAt 21 = .ok (.isub, 1) := dk_100 (dk_at dksX1_fitAt_0 21 rfl rfl)
theorem dX1_fitAt_22 : decode cX1_fitAt 22 = .ok (.invokestatic 86, 3) := dk_184 0 86 (dk_at dksX1_fitAt_1 0 rfl rfl)
theorem dX1_fitAt_25 : decode cX1_fitAt 25 = .ok (.ifCond .ne 9, 3) := dk_154 0 9 (dk_at dksX1_fitAt_1 3 rfl rfl)
theorem dX1_fitAt_28 : decode cX1_fitAt 28 = .ok (.aload_n 0, 1) := dk_42 (dk_at dksX1_fitAt_1 6 rfl rfl)
theorem dX1_fitAt_29 : decode cX1_fitAt 29 = .ok (.iconst 1, 1) := dk_4 (dk_at dksX1_fitAt_1 7 rfl rfl)
theorem dX1_fitAt_30 : decode cX1_fitAt 30 = .ok (.invokevirtual 90, 3) := dk_182 0 90 (dk_at dksX1_fitAt_1 8 rfl rfl)
theorem dX1_fitAt_33 : decode cX1_fitAt 33 = .ok (.ireturn, 1) := dk_172 (dk_at dksX1_fitAt_1 11 rfl rfl)
theorem dX1_fitAt_34 : decode cX1_fitAt 34 = .ok (.iconst 0, 1) := dk_3 (dk_at dksX1_fitAt_1 12 rfl rfl)
theorem dX1_fitAt_35 : decode cX1_fitAt 35 = .ok (.istore_n 3, 1) := dk_62 (dk_at dksX1_fitAt_1 13 rfl rfl)
theorem dX1_fitAt_36 : decode cX1_fitAt 36 = .ok (.iconst 0, 1) := dk_3 (dk_at dksX1_fitAt_1 14 rfl rfl)
theorem dX1_fitAt_37 : decode cX1_fitAt 37 = .ok (.istore 4, 2) := dk_54 4 (dk_at dksX1_fitAt_1 15 rfl rfl)
theorem dX1_fitAt_39 : decode cX1_fitAt 39 = .ok (.iload 4, 2) := dk_21 4 (dk_at dksX1_fitAt_1 17 rfl rfl)
theorem dX1_fitAt_41 : decode cX1_fitAt 41 = .ok (.aload_n 0, 1) := dk_42 (dk_at dksX1_fitAt_1 19 rfl rfl)
theorem dX1_fitAt_42 : decode cX1_fitAt 42 = .ok (.invokevirtual 281, 3) := dk_182 1 25 (dk_at dksX1_fitAt_1 20 rfl rfl)
theorem dX1_fitAt_45 : decode cX1_fitAt 45 = .ok (.if_icmp .ge 46, 3) := dk_162 0 46 (dk_at dksX1_fitAt_2 0 rfl rfl)
theorem dX1_fitAt_48 : decode cX1_fitAt 48 = .ok (.aload_n 0, 1) := dk_42 (dk_at dksX1_fitAt_2 3 rfl rfl)
theorem dX1_fitAt_49 : decode cX1_fitAt 49 = .ok (.iload 4, 2) := dk_21 4 (dk_at dksX1_fitAt_2 4 rfl rfl)
theorem dX1_fitAt_51 : decode cX1_fitAt 51 = .ok (.invokevirtual 284, 3) := dk_182 1 28 (dk_at dksX1_fitAt_2 6 rfl rfl)
theorem dX1_fitAt_54 : decode cX1_fitAt 54 = .ok (.ifCond .ne 6, 3) := dk_154 0 6 (dk_at dksX1_fitAt_2 9 rfl rfl)
theorem dX1_fitAt_57 : decode cX1_fitAt 57 = .ok (.goto 28, 3) := dk_167 0 28 (dk_at dksX1_fitAt_2 12 rfl rfl)
theorem dX1_fitAt_60 : decode cX1_fitAt 60 = .ok (.iload_n 3, 1) := dk_29 (dk_at dksX1_fitAt_2 15 rfl rfl)
theorem dX1_fitAt_61 : decode cX1_fitAt 61 = .ok (.iload_n 1, 1) := dk_27 (dk_at dksX1_fitAt_2 16 rfl rfl)
theorem dX1_fitAt_62 : decode cX1_fitAt 62 = .ok (.if_icmp .ne 20, 3) := dk_160 0 20 (dk_at dksX1_fitAt_2 17 rfl rfl)
theorem dX1_fitAt_65 : decode cX1_fitAt 65 = .ok (.aload_n 0, 1) := dk_42 (dk_at dksX1_fitAt_2 20 rfl rfl)
theorem dX1_fitAt_66 : decode cX1_fitAt 66 = .ok (.getfield 101, 3) := dk_180 0 101 (dk_at dksX1_fitAt_2 21 rfl rfl)
theorem dX1_fitAt_69 : decode cX1_fitAt 69 = .ok (.iload_n 2, 1) := dk_28 (dk_at dksX1_fitAt_3 0 rfl rfl)
theorem dX1_fitAt_70 : decode cX1_fitAt 70 = .ok (.invokevirtual 272, 3) := dk_182 1 16 (dk_at dksX1_fitAt_3 1 rfl rfl)
theorem dX1_fitAt_73 : decode cX1_fitAt 73 = .ok (.aload_n 0, 1) := dk_42 (dk_at dksX1_fitAt_3 4 rfl rfl)
theorem dX1_fitAt_74 : decode cX1_fitAt 74 = .ok (.iload 4, 2) := dk_21 4 (dk_at dksX1_fitAt_3 5 rfl rfl)
theorem dX1_fitAt_76 : decode cX1_fitAt 76 = .ok (.iload_n 2, 1) := dk_28 (dk_at dksX1_fitAt_3 7 rfl rfl)
theorem dX1_fitAt_77 : decode cX1_fitAt 77 = .ok (.invokevirtual 275, 3) := dk_182 1 19 (dk_at dksX1_fitAt_3 8 rfl rfl)
theorem dX1_fitAt_80 : decode cX1_fitAt 80 = .ok (.iadd, 1) := dk_96 (dk_at dksX1_fitAt_3 11 rfl rfl)
theorem dX1_fitAt_81 : decode cX1_fitAt 81 = .ok (.ireturn, 1) := dk_172 (dk_at dksX1_fitAt_3 12 rfl rfl)
theorem dX1_fitAt_82 : decode cX1_fitAt 82 = .ok (.iinc 3 1, 3) := dk_132 3 1 (dk_at dksX1_fitAt_3 13 rfl rfl)
theorem dX1_fitAt_85 : decode cX1_fitAt 85 = .ok (.iinc 4 1, 3) := dk_132 4 1 (dk_at dksX1_fitAt_3 16 rfl rfl)
theorem dX1_fitAt_88 : decode cX1_fitAt 88 = .ok (.goto (-49), 3) := dk_167 255 207 (dk_at dksX1_fitAt_3 19 rfl rfl)
theorem dX1_fitAt_91 : decode cX1_fitAt 91 = .ok (.aload_n 0, 1) := dk_42 (dk_at dksX1_fitAt_3 22 rfl rfl)
theorem dX1_fitAt_92 : decode cX1_fitAt 92 = .ok (.iconst 1, 1) := dk_4 (dk_at dksX1_fitAt_3 23 rfl rfl)
theorem dX1_fitAt_93 : decode cX1_fitAt 93 = .ok (.invokevirtual 90, 3) := dk_182 0 90 (dk_at dksX1_fitAt_4 0 rfl rfl)
theorem dX1_fitAt_96 : decode cX1_fitAt 96 = .ok (.ireturn, 1) := dk_172 (dk_at dksX1_fitAt_4 3 rfl rfl)
abbrev cX1_heirBy : ByteArray := prog_1_method_56_code
def yX1_heirBy : MethodName := ⟨RX1, "heirBy", "(II)I"⟩
def dkwX1_heirBy_2 : List UInt8 := [182, 0, 178, 27, 160, 0, 7, 4, 167, 0, 4, 3, 96, 62, 132, 4, 1, 167, 255, 215, 29, 172]
abbrev dktX1_heirBy_2 : List UInt8 := dkwX1_heirBy_2 ++ []
def dkwX1_heirBy_1 : List UInt8 := [21, 4, 42, 182, 1, 25, 162, 0, 38, 29, 42, 21, 4, 182, 1, 28, 153, 0, 19, 42, 180, 0, 40, 28]
abbrev dktX1_heirBy_1 : List UInt8 := dkwX1_heirBy_1 ++ dktX1_heirBy_2
def dkwX1_heirBy_0 : List UInt8 := [42, 182, 0, 76, 42, 27, 28, 182, 0, 168, 154, 0, 9, 42, 4, 182, 0, 90, 172, 3, 62, 3, 54, 4]
abbrev dktX1_heirBy_0 : List UInt8 := dkwX1_heirBy_0 ++ dktX1_heirBy_1
theorem dksX1_heirBy_0 : cX1_heirBy.data.toList.drop 0 = dktX1_heirBy_0 := by decide +kernel
theorem dksX1_heirBy_1 : cX1_heirBy.data.toList.drop 24 = dktX1_heirBy_1 := dk_seg dksX1_heirBy_0 24 rfl rfl
theorem dksX1_heirBy_2 : cX1_heirBy.data.toList.drop 48 = dktX1_heirBy_2 := dk_seg dksX1_heirBy_1 24 rfl rfl
theorem dX1_heirBy_0 : decode cX1_heirBy 0 = .ok (.aload_n 0, 1) := dk_42 (dk_at dksX1_heirBy_0 0 rfl rfl)
theorem dX1_heirBy_1 : decode cX1_heirBy 1 = .ok (.invokevirtual 76, 3) := dk_182 0 76 (dk_at dksX1_heirBy_0 1 rfl rfl)
theorem dX1_heirBy_4 : decode cX1_heirBy 4 = .ok (.aload_n 0, 1) := dk_42 (dk_at dksX1_heirBy_0 4 rfl rfl)
theorem dX1_heirBy_5 : decode cX1_heirBy 5 = .ok (.iload_n 1, 1) := dk_27 (dk_at dksX1_heirBy_0 5 rfl rfl)
theorem dX1_heirBy_6 : decode cX1_heirBy 6 = .ok (.iload_n 2, 1) := dk_28 (dk_at dksX1_heirBy_0 6 rfl rfl)
theorem dX1_heirBy_7 : decode cX1_heirBy 7 = .ok (.invokevirtual 168, 3) := dk_182 0 168 (dk_at dksX1_heirBy_0 7 rfl rfl)
theorem dX1_heirBy_10 : decode cX1_heirBy 10 = .ok (.ifCond .ne 9, 3) := dk_154 0 9 (dk_at dksX1_heirBy_0 10 rfl rfl)
theorem dX1_heirBy_13 : decode cX1_heirBy 13 = .ok (.aload_n 0, 1) := dk_42 (dk_at dksX1_heirBy_0 13 rfl rfl)
theorem dX1_heirBy_14 : decode cX1_heirBy 14 = .ok (.iconst 1, 1) := dk_4 (dk_at dksX1_heirBy_0 14 rfl rfl)
theorem dX1_heirBy_15 : decode cX1_heirBy 15 = .ok (.invokevirtual 90, 3) := dk_182 0 90 (dk_at dksX1_heirBy_0 15 rfl rfl)
theorem dX1_heirBy_18 : decode cX1_heirBy 18 = .ok (.ireturn, 1) := dk_172 (dk_at dksX1_heirBy_0 18 rfl rfl)
theorem dX1_heirBy_19 : decode cX1_heirBy 19 = .ok (.iconst 0, 1) := dk_3 (dk_at dksX1_heirBy_0 19 rfl rfl)
theorem dX1_heirBy_20 : decode cX1_heirBy 20 = .ok (.istore_n 3, 1) := dk_62 (dk_at dksX1_heirBy_0 20 rfl rfl)
theorem dX1_heirBy_21 : decode cX1_heirBy 21 = .ok (.iconst 0, 1) := dk_3 (dk_at dksX1_heirBy_0 21 rfl rfl)
theorem dX1_heirBy_22 : decode cX1_heirBy 22 = .ok (.istore 4, 2) := dk_54 4 (dk_at dksX1_heirBy_0 22 rfl rfl)
theorem dX1_heirBy_24 : decode cX1_heirBy 24 = .ok (.iload 4, 2) := dk_21 4 (dk_at dksX1_heirBy_1 0 rfl rfl)
theorem dX1_heirBy_26 : decode cX1_heirBy 26 = .ok (.aload_n 0, 1) := dk_42 (dk_at dksX1_heirBy_1 2 rfl rfl)
theorem dX1_heirBy_27 : decode cX1_heirBy 27 = .ok (.invokevirtual 281, 3) := dk_182 1 25 (dk_at dksX1_heirBy_1 3 rfl rfl)
theorem dX1_heirBy_30 : decode cX1_heirBy 30 = .ok (.if_icmp .ge 38, 3) := dk_162 0 38 (dk_at dksX1_heirBy_1 6 rfl rfl)
theorem dX1_heirBy_33 : decode cX1_heirBy 33 = .ok (.iload_n 3, 1) := dk_29 (dk_at dksX1_heirBy_1 9 rfl rfl)
theorem dX1_heirBy_34 : decode cX1_heirBy 34 = .ok (.aload_n 0, 1) := dk_42 (dk_at dksX1_heirBy_1 10 rfl rfl)
theorem dX1_heirBy_35 : decode cX1_heirBy 35 = .ok (.iload 4, 2) := dk_21 4 (dk_at dksX1_heirBy_1 11 rfl rfl)
theorem dX1_heirBy_37 : decode cX1_heirBy 37 = .ok (.invokevirtual 284, 3) := dk_182 1 28 (dk_at dksX1_heirBy_1 13 rfl rfl)
theorem dX1_heirBy_40 : decode cX1_heirBy 40 = .ok (.ifCond .eq 19, 3) := dk_153 0 19 (dk_at dksX1_heirBy_1 16 rfl rfl)
theorem dX1_heirBy_43 : decode cX1_heirBy 43 = .ok (.aload_n 0, 1) := dk_42 (dk_at dksX1_heirBy_1 19 rfl rfl)
theorem dX1_heirBy_44 : decode cX1_heirBy 44 = .ok (.getfield 40, 3) := dk_180 0 40 (dk_at dksX1_heirBy_1 20 rfl rfl)
theorem dX1_heirBy_47 : decode cX1_heirBy 47 = .ok (.iload_n 2, 1) := dk_28 (dk_at dksX1_heirBy_1 23 rfl rfl)
theorem dX1_heirBy_48 : decode cX1_heirBy 48 = .ok (.invokevirtual 178, 3) := dk_182 0 178 (dk_at dksX1_heirBy_2 0 rfl rfl)
theorem dX1_heirBy_51 : decode cX1_heirBy 51 = .ok (.iload_n 1, 1) := dk_27 (dk_at dksX1_heirBy_2 3 rfl rfl)
theorem dX1_heirBy_52 : decode cX1_heirBy 52 = .ok (.if_icmp .ne 7, 3) := dk_160 0 7 (dk_at dksX1_heirBy_2 4 rfl rfl)
theorem dX1_heirBy_55 : decode cX1_heirBy 55 = .ok (.iconst 1, 1) := dk_4 (dk_at dksX1_heirBy_2 7 rfl rfl)
theorem dX1_heirBy_56 : decode cX1_heirBy 56 = .ok (.goto 4, 3) := dk_167 0 4 (dk_at dksX1_heirBy_2 8 rfl rfl)
theorem dX1_heirBy_59 : decode cX1_heirBy 59 = .ok (.iconst 0, 1) := dk_3 (dk_at dksX1_heirBy_2 11 rfl rfl)
theorem dX1_heirBy_60 : decode cX1_heirBy 60 = .ok (.iadd, 1) := dk_96 (dk_at dksX1_heirBy_2 12 rfl rfl)
theorem dX1_heirBy_61 : decode cX1_heirBy 61 = .ok (.istore_n 3, 1) := dk_62 (dk_at dksX1_heirBy_2 13 rfl rfl)
theorem dX1_heirBy_62 : decode cX1_heirBy 62 = .ok (.iinc 4 1, 3) := dk_132 4 1 (dk_at dksX1_heirBy_2 14 rfl rfl)
theorem dX1_heirBy_65 : decode cX1_heirBy 65 = .ok (.goto (-41), 3) := dk_167 255 215 (dk_at dksX1_heirBy_2 17 rfl rfl)
theorem dX1_heirBy_68 : decode cX1_heirBy 68 = .ok (.iload_n 3, 1) := dk_29 (dk_at dksX1_heirBy_2 20 rfl rfl)
theorem dX1_heirBy_69 : decode cX1_heirBy 69 = .ok (.ireturn, 1) := dk_172 (dk_at dksX1_heirBy_2 21 rfl rfl)
abbrev cX1_look : ByteArray := prog_1_method_59_code
def yX1_look : MethodName := ⟨RX1, "look", "()I"⟩
def dkwX1_look_0 : List UInt8 := [42, 182, 0, 76, 42, 180, 0, 101, 199, 0, 11, 42, 4, 182, 0, 90, 167, 0, 7, 42, 182, 1, 39, 172]
abbrev dktX1_look_0 : List UInt8 := dkwX1_look_0 ++ []
theorem dksX1_look_0 : cX1_look.data.toList.drop 0 = dktX1_look_0 := by decide +kernel
theorem dX1_look_0 : decode cX1_look 0 = .ok (.aload_n 0, 1) := dk_42 (dk_at dksX1_look_0 0 rfl rfl)
theorem dX1_look_1 : decode cX1_look 1 = .ok (.invokevirtual 76, 3) := dk_182 0 76 (dk_at dksX1_look_0 1 rfl rfl)
theorem dX1_look_4 : decode cX1_look 4 = .ok (.aload_n 0, 1) := dk_42 (dk_at dksX1_look_0 4 rfl rfl)
theorem dX1_look_5 : decode cX1_look 5 = .ok (.getfield 101, 3) := dk_180 0 101 (dk_at dksX1_look_0 5 rfl rfl)
theorem dX1_look_8 : decode cX1_look 8 = .ok (.ifnonnull 11, 3) := dk_199 0 11 (dk_at dksX1_look_0 8 rfl rfl)
theorem dX1_look_11 : decode cX1_look 11 = .ok (.aload_n 0, 1) := dk_42 (dk_at dksX1_look_0 11 rfl rfl)
theorem dX1_look_12 : decode cX1_look 12 = .ok (.iconst 1, 1) := dk_4 (dk_at dksX1_look_0 12 rfl rfl)
theorem dX1_look_13 : decode cX1_look 13 = .ok (.invokevirtual 90, 3) := dk_182 0 90 (dk_at dksX1_look_0 13 rfl rfl)
theorem dX1_look_16 : decode cX1_look 16 = .ok (.goto 7, 3) := dk_167 0 7 (dk_at dksX1_look_0 16 rfl rfl)
theorem dX1_look_19 : decode cX1_look 19 = .ok (.aload_n 0, 1) := dk_42 (dk_at dksX1_look_0 19 rfl rfl)
theorem dX1_look_20 : decode cX1_look 20 = .ok (.invokevirtual 295, 3) := dk_182 1 39 (dk_at dksX1_look_0 20 rfl rfl)
theorem dX1_look_23 : decode cX1_look 23 = .ok (.ireturn, 1) := dk_172 (dk_at dksX1_look_0 23 rfl rfl)
abbrev cX1_lookOf : ByteArray := prog_1_method_58_code
def yX1_lookOf : MethodName := ⟨RX1, "lookOf", "()I"⟩
def dkwX1_lookOf_2 : List UInt8 := [167, 255, 216, 27, 172]
abbrev dktX1_lookOf_2 : List UInt8 := dkwX1_lookOf_2 ++ []
def dkwX1_lookOf_1 : List UInt8 := [54, 4, 21, 4, 153, 0, 17, 21, 4, 28, 161, 0, 6, 167, 0, 8, 29, 60, 21, 4, 61, 132, 3, 1]
abbrev dktX1_lookOf_1 : List UInt8 := dkwX1_lookOf_1 ++ dktX1_lookOf_2
def dkwX1_lookOf_0 : List UInt8 := [16, 254, 60, 18, 250, 61, 3, 62, 29, 42, 180, 0, 101, 180, 0, 254, 162, 0, 35, 42, 29, 182, 1, 36]
abbrev dktX1_lookOf_0 : List UInt8 := dkwX1_lookOf_0 ++ dktX1_lookOf_1
theorem dksX1_lookOf_0 : cX1_lookOf.data.toList.drop 0 = dktX1_lookOf_0 := by decide +kernel
theorem dksX1_lookOf_1 : cX1_lookOf.data.toList.drop 24 = dktX1_lookOf_1 := dk_seg dksX1_lookOf_0 24 rfl rfl
theorem dksX1_lookOf_2 : cX1_lookOf.data.toList.drop 48 = dktX1_lookOf_2 := dk_seg dksX1_lookOf_1 24 rfl rfl
theorem dX1_lookOf_0 : decode cX1_lookOf 0 = .ok (.bipush (-2), 2) := dk_16 254 (dk_at dksX1_lookOf_0 0 rfl rfl)
theorem dX1_lookOf_2 : decode cX1_lookOf 2 = .ok (.istore_n 1, 1) := dk_60 (dk_at dksX1_lookOf_0 2 rfl rfl)
theorem dX1_lookOf_3 : decode cX1_lookOf 3 = .ok (.ldc 250, 2) := dk_18 250 (dk_at dksX1_lookOf_0 3 rfl rfl)
theorem dX1_lookOf_5 : decode cX1_lookOf 5 = .ok (.istore_n 2, 1) := dk_61 (dk_at dksX1_lookOf_0 5 rfl rfl)
theorem dX1_lookOf_6 : decode cX1_lookOf 6 = .ok (.iconst 0, 1) := dk_3 (dk_at dksX1_lookOf_0 6 rfl rfl)
theorem dX1_lookOf_7 : decode cX1_lookOf 7 = .ok (.istore_n 3, 1) := dk_62 (dk_at dksX1_lookOf_0 7 rfl rfl)
theorem dX1_lookOf_8 : decode cX1_lookOf 8 = .ok (.iload_n 3, 1) := dk_29 (dk_at dksX1_lookOf_0 8 rfl rfl)
theorem dX1_lookOf_9 : decode cX1_lookOf 9 = .ok (.aload_n 0, 1) := dk_42 (dk_at dksX1_lookOf_0 9 rfl rfl)
theorem dX1_lookOf_10 : decode cX1_lookOf 10 = .ok (.getfield 101, 3) := dk_180 0 101 (dk_at dksX1_lookOf_0 10 rfl rfl)
theorem dX1_lookOf_13 : decode cX1_lookOf 13 = .ok (.getfield 254, 3) := dk_180 0 254 (dk_at dksX1_lookOf_0 13 rfl rfl)
theorem dX1_lookOf_16 : decode cX1_lookOf 16 = .ok (.if_icmp .ge 35, 3) := dk_162 0 35 (dk_at dksX1_lookOf_0 16 rfl rfl)
theorem dX1_lookOf_19 : decode cX1_lookOf 19 = .ok (.aload_n 0, 1) := dk_42 (dk_at dksX1_lookOf_0 19 rfl rfl)
theorem dX1_lookOf_20 : decode cX1_lookOf 20 = .ok (.iload_n 3, 1) := dk_29 (dk_at dksX1_lookOf_0 20 rfl rfl)
theorem dX1_lookOf_21 : decode cX1_lookOf 21 = .ok (.invokevirtual 292, 3) := dk_182 1 36 (dk_at dksX1_lookOf_0 21 rfl rfl)
theorem dX1_lookOf_24 : decode cX1_lookOf 24 = .ok (.istore 4, 2) := dk_54 4 (dk_at dksX1_lookOf_1 0 rfl rfl)
theorem dX1_lookOf_26 : decode cX1_lookOf 26 = .ok (.iload 4, 2) := dk_21 4 (dk_at dksX1_lookOf_1 2 rfl rfl)
theorem dX1_lookOf_28 : decode cX1_lookOf 28 = .ok (.ifCond .eq 17, 3) := dk_153 0 17 (dk_at dksX1_lookOf_1 4 rfl rfl)
theorem dX1_lookOf_31 : decode cX1_lookOf 31 = .ok (.iload 4, 2) := dk_21 4 (dk_at dksX1_lookOf_1 7 rfl rfl)
theorem dX1_lookOf_33 : decode cX1_lookOf 33 = .ok (.iload_n 2, 1) := dk_28 (dk_at dksX1_lookOf_1 9 rfl rfl)
theorem dX1_lookOf_34 : decode cX1_lookOf 34 = .ok (.if_icmp .lt 6, 3) := dk_161 0 6 (dk_at dksX1_lookOf_1 10 rfl rfl)
theorem dX1_lookOf_37 : decode cX1_lookOf 37 = .ok (.goto 8, 3) := dk_167 0 8 (dk_at dksX1_lookOf_1 13 rfl rfl)
theorem dX1_lookOf_40 : decode cX1_lookOf 40 = .ok (.iload_n 3, 1) := dk_29 (dk_at dksX1_lookOf_1 16 rfl rfl)
theorem dX1_lookOf_41 : decode cX1_lookOf 41 = .ok (.istore_n 1, 1) := dk_60 (dk_at dksX1_lookOf_1 17 rfl rfl)
theorem dX1_lookOf_42 : decode cX1_lookOf 42 = .ok (.iload 4, 2) := dk_21 4 (dk_at dksX1_lookOf_1 18 rfl rfl)
theorem dX1_lookOf_44 : decode cX1_lookOf 44 = .ok (.istore_n 2, 1) := dk_61 (dk_at dksX1_lookOf_1 20 rfl rfl)
theorem dX1_lookOf_45 : decode cX1_lookOf 45 = .ok (.iinc 3 1, 3) := dk_132 3 1 (dk_at dksX1_lookOf_1 21 rfl rfl)
theorem dX1_lookOf_48 : decode cX1_lookOf 48 = .ok (.goto (-40), 3) := dk_167 255 216 (dk_at dksX1_lookOf_2 0 rfl rfl)
theorem dX1_lookOf_51 : decode cX1_lookOf 51 = .ok (.iload_n 1, 1) := dk_27 (dk_at dksX1_lookOf_2 3 rfl rfl)
theorem dX1_lookOf_52 : decode cX1_lookOf 52 = .ok (.ireturn, 1) := dk_172 (dk_at dksX1_lookOf_2 4 rfl rfl)
abbrev cX1_leaves : ByteArray := prog_1_method_57_code
def yX1_leaves : MethodName := ⟨RX1, "leaves", "(I)I"⟩
def dkwX1_leaves_3 : List UInt8 := [28, 42, 180, 0, 66, 29, 46, 184, 1, 31, 61, 132, 3, 1, 167, 255, 236, 28, 172]
abbrev dktX1_leaves_3 : List UInt8 := dkwX1_leaves_3 ++ []
def dkwX1_leaves_2 : List UInt8 := [182, 1, 19, 92, 46, 4, 96, 79, 132, 2, 1, 167, 255, 222, 3, 61, 3, 62, 29, 16, 6, 163, 0, 20]
abbrev dktX1_leaves_2 : List UInt8 := dkwX1_leaves_2 ++ dktX1_leaves_3
def dkwX1_leaves_1 : List UInt8 := [42, 182, 1, 25, 162, 0, 32, 42, 28, 182, 1, 28, 153, 0, 18, 42, 180, 0, 66, 42, 28, 27]
abbrev dktX1_leaves_1 : List UInt8 := dkwX1_leaves_1 ++ dktX1_leaves_2
def dkwX1_leaves_0 : List UInt8 := [3, 61, 28, 16, 6, 163, 0, 16, 42, 180, 0, 66, 28, 3, 79, 132, 2, 1, 167, 255, 240, 3, 61, 28]
abbrev dktX1_leaves_0 : List UInt8 := dkwX1_leaves_0 ++ dktX1_leaves_1
theorem dksX1_leaves_0 : cX1_leaves.data.toList.drop 0 = dktX1_leaves_0 := by decide +kernel
theorem dksX1_leaves_1 : cX1_leaves.data.toList.drop 24 = dktX1_leaves_1 := dk_seg dksX1_leaves_0 24 rfl rfl
theorem dksX1_leaves_2 : cX1_leaves.data.toList.drop 46 = dktX1_leaves_2 := dk_seg dksX1_leaves_1 22 rfl rfl
theorem dksX1_leaves_3 : cX1_leaves.data.toList.drop 70 = dktX1_leaves_3 := dk_seg dksX1_leaves_2 24 rfl rfl
theorem dX1_leaves_0 : decode cX1_leaves 0 = .ok (.iconst 0, 1) := dk_3 (dk_at dksX1_leaves_0 0 rfl rfl)
theorem dX1_leaves_1 : decode cX1_leaves 1 = .ok (.istore_n 2, 1) := dk_61 (dk_at dksX1_leaves_0 1 rfl rfl)
theorem dX1_leaves_2 : decode cX1_leaves 2 = .ok (.iload_n 2, 1) := dk_28 (dk_at dksX1_leaves_0 2 rfl rfl)
theorem dX1_leaves_3 : decode cX1_leaves 3 = .ok (.bipush 6, 2) := dk_16 6 (dk_at dksX1_leaves_0 3 rfl rfl)
theorem dX1_leaves_5 : decode cX1_leaves 5 = .ok (.if_icmp .gt 16, 3) := dk_163 0 16 (dk_at dksX1_leaves_0 5 rfl rfl)
theorem dX1_leaves_8 : decode cX1_leaves 8 = .ok (.aload_n 0, 1) := dk_42 (dk_at dksX1_leaves_0 8 rfl rfl)
theorem dX1_leaves_9 : decode cX1_leaves 9 = .ok (.getfield 66, 3) := dk_180 0 66 (dk_at dksX1_leaves_0 9 rfl rfl)
theorem dX1_leaves_12 : decode cX1_leaves 12 = .ok (.iload_n 2, 1) := dk_28 (dk_at dksX1_leaves_0 12 rfl rfl)
theorem dX1_leaves_13 : decode cX1_leaves 13 = .ok (.iconst 0, 1) := dk_3 (dk_at dksX1_leaves_0 13 rfl rfl)
theorem dX1_leaves_14 : decode cX1_leaves 14 = .ok (.iastore, 1) := dk_79 (dk_at dksX1_leaves_0 14 rfl rfl)
theorem dX1_leaves_15 : decode cX1_leaves 15 = .ok (.iinc 2 1, 3) := dk_132 2 1 (dk_at dksX1_leaves_0 15 rfl rfl)
theorem dX1_leaves_18 : decode cX1_leaves 18 = .ok (.goto (-16), 3) := dk_167 255 240 (dk_at dksX1_leaves_0 18 rfl rfl)
theorem dX1_leaves_21 : decode cX1_leaves 21 = .ok (.iconst 0, 1) := dk_3 (dk_at dksX1_leaves_0 21 rfl rfl)
theorem dX1_leaves_22 : decode cX1_leaves 22 = .ok (.istore_n 2, 1) := dk_61 (dk_at dksX1_leaves_0 22 rfl rfl)
theorem dX1_leaves_23 : decode cX1_leaves 23 = .ok (.iload_n 2, 1) := dk_28 (dk_at dksX1_leaves_0 23 rfl rfl)
theorem dX1_leaves_24 : decode cX1_leaves 24 = .ok (.aload_n 0, 1) := dk_42 (dk_at dksX1_leaves_1 0 rfl rfl)
theorem dX1_leaves_25 : decode cX1_leaves 25 = .ok (.invokevirtual 281, 3) := dk_182 1 25 (dk_at dksX1_leaves_1 1 rfl rfl)
theorem dX1_leaves_28 : decode cX1_leaves 28 = .ok (.if_icmp .ge 32, 3) := dk_162 0 32 (dk_at dksX1_leaves_1 4 rfl rfl)
theorem dX1_leaves_31 : decode cX1_leaves 31 = .ok (.aload_n 0, 1) := dk_42 (dk_at dksX1_leaves_1 7 rfl rfl)
theorem dX1_leaves_32 : decode cX1_leaves 32 = .ok (.iload_n 2, 1) := dk_28 (dk_at dksX1_leaves_1 8 rfl rfl)
theorem dX1_leaves_33 : decode cX1_leaves 33 = .ok (.invokevirtual 284, 3) := dk_182 1 28 (dk_at dksX1_leaves_1 9 rfl rfl)
theorem dX1_leaves_36 : decode cX1_leaves 36 = .ok (.ifCond .eq 18, 3) := dk_153 0 18 (dk_at dksX1_leaves_1 12 rfl rfl)
theorem dX1_leaves_39 : decode cX1_leaves 39 = .ok (.aload_n 0, 1) := dk_42 (dk_at dksX1_leaves_1 15 rfl rfl)
theorem dX1_leaves_40 : decode cX1_leaves 40 = .ok (.getfield 66, 3) := dk_180 0 66 (dk_at dksX1_leaves_1 16 rfl rfl)
theorem dX1_leaves_43 : decode cX1_leaves 43 = .ok (.aload_n 0, 1) := dk_42 (dk_at dksX1_leaves_1 19 rfl rfl)
theorem dX1_leaves_44 : decode cX1_leaves 44 = .ok (.iload_n 2, 1) := dk_28 (dk_at dksX1_leaves_1 20 rfl rfl)
theorem dX1_leaves_45 : decode cX1_leaves 45 = .ok (.iload_n 1, 1) := dk_27 (dk_at dksX1_leaves_1 21 rfl rfl)
theorem dX1_leaves_46 : decode cX1_leaves 46 = .ok (.invokevirtual 275, 3) := dk_182 1 19 (dk_at dksX1_leaves_2 0 rfl rfl)
theorem dX1_leaves_49 : decode cX1_leaves 49 = .ok (.dup2, 1) := dk_92 (dk_at dksX1_leaves_2 3 rfl rfl)
theorem dX1_leaves_50 : decode cX1_leaves 50 = .ok (.iaload, 1) := dk_46 (dk_at dksX1_leaves_2 4 rfl rfl)
theorem dX1_leaves_51 : decode cX1_leaves 51 = .ok (.iconst 1, 1) := dk_4 (dk_at dksX1_leaves_2 5 rfl rfl)
theorem dX1_leaves_52 : decode cX1_leaves 52 = .ok (.iadd, 1) := dk_96 (dk_at dksX1_leaves_2 6 rfl rfl)
theorem dX1_leaves_53 : decode cX1_leaves 53 = .ok (.iastore, 1) := dk_79 (dk_at dksX1_leaves_2 7 rfl rfl)
theorem dX1_leaves_54 : decode cX1_leaves 54 = .ok (.iinc 2 1, 3) := dk_132 2 1 (dk_at dksX1_leaves_2 8 rfl rfl)
theorem dX1_leaves_57 : decode cX1_leaves 57 = .ok (.goto (-34), 3) := dk_167 255 222 (dk_at dksX1_leaves_2 11 rfl rfl)
theorem dX1_leaves_60 : decode cX1_leaves 60 = .ok (.iconst 0, 1) := dk_3 (dk_at dksX1_leaves_2 14 rfl rfl)
theorem dX1_leaves_61 : decode cX1_leaves 61 = .ok (.istore_n 2, 1) := dk_61 (dk_at dksX1_leaves_2 15 rfl rfl)
theorem dX1_leaves_62 : decode cX1_leaves 62 = .ok (.iconst 0, 1) := dk_3 (dk_at dksX1_leaves_2 16 rfl rfl)
theorem dX1_leaves_63 : decode cX1_leaves 63 = .ok (.istore_n 3, 1) := dk_62 (dk_at dksX1_leaves_2 17 rfl rfl)
theorem dX1_leaves_64 : decode cX1_leaves 64 = .ok (.iload_n 3, 1) := dk_29 (dk_at dksX1_leaves_2 18 rfl rfl)
theorem dX1_leaves_65 : decode cX1_leaves 65 = .ok (.bipush 6, 2) := dk_16 6 (dk_at dksX1_leaves_2 19 rfl rfl)
theorem dX1_leaves_67 : decode cX1_leaves 67 = .ok (.if_icmp .gt 20, 3) := dk_163 0 20 (dk_at dksX1_leaves_2 21 rfl rfl)
theorem dX1_leaves_70 : decode cX1_leaves 70 = .ok (.iload_n 2, 1) := dk_28 (dk_at dksX1_leaves_3 0 rfl rfl)
theorem dX1_leaves_71 : decode cX1_leaves 71 = .ok (.aload_n 0, 1) := dk_42 (dk_at dksX1_leaves_3 1 rfl rfl)
theorem dX1_leaves_72 : decode cX1_leaves 72 = .ok (.getfield 66, 3) := dk_180 0 66 (dk_at dksX1_leaves_3 2 rfl rfl)
theorem dX1_leaves_75 : decode cX1_leaves 75 = .ok (.iload_n 3, 1) := dk_29 (dk_at dksX1_leaves_3 5 rfl rfl)
theorem dX1_leaves_76 : decode cX1_leaves 76 = .ok (.iaload, 1) := dk_46 (dk_at dksX1_leaves_3 6 rfl rfl)
theorem dX1_leaves_77 : decode cX1_leaves 77 = .ok (.invokestatic 287, 3) := dk_184 1 31 (dk_at dksX1_leaves_3 7 rfl rfl)
theorem dX1_leaves_80 : decode cX1_leaves 80 = .ok (.istore_n 2, 1) := dk_61 (dk_at dksX1_leaves_3 10 rfl rfl)
theorem dX1_leaves_81 : decode cX1_leaves 81 = .ok (.iinc 3 1, 3) := dk_132 3 1 (dk_at dksX1_leaves_3 11 rfl rfl)
theorem dX1_leaves_84 : decode cX1_leaves 84 = .ok (.goto (-20), 3) := dk_167 255 236 (dk_at dksX1_leaves_3 14 rfl rfl)
theorem dX1_leaves_87 : decode cX1_leaves 87 = .ok (.iload_n 2, 1) := dk_28 (dk_at dksX1_leaves_3 17 rfl rfl)
theorem dX1_leaves_88 : decode cX1_leaves 88 = .ok (.ireturn, 1) := dk_172 (dk_at dksX1_leaves_3 18 rfl rfl)
abbrev cX1_lookLeaves : ByteArray := prog_1_method_60_code
def yX1_lookLeaves : MethodName := ⟨RX1, "lookLeaves", "()I"⟩
def dkwX1_lookLeaves_1 : List UInt8 := [16, 254, 160, 0, 8, 16, 254, 167, 0, 8, 42, 27, 182, 1, 36, 172]
abbrev dktX1_lookLeaves_1 : List UInt8 := dkwX1_lookLeaves_1 ++ []
def dkwX1_lookLeaves_0 : List UInt8 := [42, 182, 0, 76, 42, 180, 0, 101, 199, 0, 9, 42, 4, 182, 0, 90, 172, 42, 182, 1, 39, 60, 27]
abbrev dktX1_lookLeaves_0 : List UInt8 := dkwX1_lookLeaves_0 ++ dktX1_lookLeaves_1
theorem dksX1_lookLeaves_0 : cX1_lookLeaves.data.toList.drop 0 = dktX1_lookLeaves_0 := by decide +kernel
theorem dksX1_lookLeaves_1 : cX1_lookLeaves.data.toList.drop 23 = dktX1_lookLeaves_1 := dk_seg dksX1_lookLeaves_0 23 rfl rfl
theorem dX1_lookLeaves_0 : decode cX1_lookLeaves 0 = .ok (.aload_n 0, 1) := dk_42 (dk_at dksX1_lookLeaves_0 0 rfl rfl)
theorem dX1_lookLeaves_1 : decode cX1_lookLeaves 1 = .ok (.invokevirtual 76, 3) := dk_182 0 76 (dk_at dksX1_lookLeaves_0 1 rfl rfl)
theorem dX1_lookLeaves_4 : decode cX1_lookLeaves 4 = .ok (.aload_n 0, 1) := dk_42 (dk_at dksX1_lookLeaves_0 4 rfl rfl)
theorem dX1_lookLeaves_5 : decode cX1_lookLeaves 5 = .ok (.getfield 101, 3) := dk_180 0 101 (dk_at dksX1_lookLeaves_0 5 rfl rfl)
theorem dX1_lookLeaves_8 : decode cX1_lookLeaves 8 = .ok (.ifnonnull 9, 3) := dk_199 0 9 (dk_at dksX1_lookLeaves_0 8 rfl rfl)
theorem dX1_lookLeaves_11 : decode cX1_lookLeaves 11 = .ok (.aload_n 0, 1) := dk_42 (dk_at dksX1_lookLeaves_0 11 rfl rfl)
theorem dX1_lookLeaves_12 : decode cX1_lookLeaves 12 = .ok (.iconst 1, 1) := dk_4 (dk_at dksX1_lookLeaves_0 12 rfl rfl)
theorem dX1_lookLeaves_13 : decode cX1_lookLeaves 13 = .ok (.invokevirtual 90, 3) := dk_182 0 90 (dk_at dksX1_lookLeaves_0 13 rfl rfl)
theorem dX1_lookLeaves_16 : decode cX1_lookLeaves 16 = .ok (.ireturn, 1) := dk_172 (dk_at dksX1_lookLeaves_0 16 rfl rfl)
theorem dX1_lookLeaves_17 : decode cX1_lookLeaves 17 = .ok (.aload_n 0, 1) := dk_42 (dk_at dksX1_lookLeaves_0 17 rfl rfl)
theorem dX1_lookLeaves_18 : decode cX1_lookLeaves 18 = .ok (.invokevirtual 295, 3) := dk_182 1 39 (dk_at dksX1_lookLeaves_0 18 rfl rfl)
theorem dX1_lookLeaves_21 : decode cX1_lookLeaves 21 = .ok (.istore_n 1, 1) := dk_60 (dk_at dksX1_lookLeaves_0 21 rfl rfl)
theorem dX1_lookLeaves_22 : decode cX1_lookLeaves 22 = .ok (.iload_n 1, 1) := dk_27 (dk_at dksX1_lookLeaves_0 22 rfl rfl)
theorem dX1_lookLeaves_23 : decode cX1_lookLeaves 23 = .ok (.bipush (-2), 2) := dk_16 254 (dk_at dksX1_lookLeaves_1 0 rfl rfl)
theorem dX1_lookLeaves_25 : decode cX1_lookLeaves 25 = .ok (.if_icmp .ne 8, 3) := dk_160 0 8 (dk_at dksX1_lookLeaves_1 2 rfl rfl)
theorem dX1_lookLeaves_28 : decode cX1_lookLeaves 28 = .ok (.bipush (-2), 2) := dk_16 254 (dk_at dksX1_lookLeaves_1 5 rfl rfl)
theorem dX1_lookLeaves_30 : decode cX1_lookLeaves 30 = .ok (.goto 8, 3) := dk_167 0 8 (dk_at dksX1_lookLeaves_1 7 rfl rfl)
theorem dX1_lookLeaves_33 : decode cX1_lookLeaves 33 = .ok (.aload_n 0, 1) := dk_42 (dk_at dksX1_lookLeaves_1 10 rfl rfl)
theorem dX1_lookLeaves_34 : decode cX1_lookLeaves 34 = .ok (.iload_n 1, 1) := dk_27 (dk_at dksX1_lookLeaves_1 11 rfl rfl)
theorem dX1_lookLeaves_35 : decode cX1_lookLeaves 35 = .ok (.invokevirtual 292, 3) := dk_182 1 36 (dk_at dksX1_lookLeaves_1 12 rfl rfl)
theorem dX1_lookLeaves_38 : decode cX1_lookLeaves 38 = .ok (.ireturn, 1) := dk_172 (dk_at dksX1_lookLeaves_1 15 rfl rfl)
abbrev cX1_judge : ByteArray := prog_1_method_61_code
def yX1_judge : MethodName := ⟨RX1, "judge", "()I"⟩
def dkwX1_judge_1 : List UInt8 := [180, 0, 101, 182, 0, 111, 87, 42, 182, 1, 22, 172]
abbrev dktX1_judge_1 : List UInt8 := dkwX1_judge_1 ++ []
def dkwX1_judge_0 : List UInt8 := [42, 182, 0, 76, 42, 180, 0, 101, 199, 0, 9, 42, 4, 182, 0, 90, 172, 42, 180, 0, 40, 42]
abbrev dktX1_judge_0 : List UInt8 := dkwX1_judge_0 ++ dktX1_judge_1
theorem dksX1_judge_0 : cX1_judge.data.toList.drop 0 = dktX1_judge_0 := by decide +kernel
theorem dksX1_judge_1 : cX1_judge.data.toList.drop 22 = dktX1_judge_1 := dk_seg dksX1_judge_0 22 rfl rfl
theorem dX1_judge_0 : decode cX1_judge 0 = .ok (.aload_n 0, 1) := dk_42 (dk_at dksX1_judge_0 0 rfl rfl)
theorem dX1_judge_1 : decode cX1_judge 1 = .ok (.invokevirtual 76, 3) := dk_182 0 76 (dk_at dksX1_judge_0 1 rfl rfl)
theorem dX1_judge_4 : decode cX1_judge 4 = .ok (.aload_n 0, 1) := dk_42 (dk_at dksX1_judge_0 4 rfl rfl)
theorem dX1_judge_5 : decode cX1_judge 5 = .ok (.getfield 101, 3) := dk_180 0 101 (dk_at dksX1_judge_0 5 rfl rfl)
theorem dX1_judge_8 : decode cX1_judge 8 = .ok (.ifnonnull 9, 3) := dk_199 0 9 (dk_at dksX1_judge_0 8 rfl rfl)
theorem dX1_judge_11 : decode cX1_judge 11 = .ok (.aload_n 0, 1) := dk_42 (dk_at dksX1_judge_0 11 rfl rfl)
theorem dX1_judge_12 : decode cX1_judge 12 = .ok (.iconst 1, 1) := dk_4 (dk_at dksX1_judge_0 12 rfl rfl)
theorem dX1_judge_13 : decode cX1_judge 13 = .ok (.invokevirtual 90, 3) := dk_182 0 90 (dk_at dksX1_judge_0 13 rfl rfl)
theorem dX1_judge_16 : decode cX1_judge 16 = .ok (.ireturn, 1) := dk_172 (dk_at dksX1_judge_0 16 rfl rfl)
theorem dX1_judge_17 : decode cX1_judge 17 = .ok (.aload_n 0, 1) := dk_42 (dk_at dksX1_judge_0 17 rfl rfl)
theorem dX1_judge_18 : decode cX1_judge 18 = .ok (.getfield 40, 3) := dk_180 0 40 (dk_at dksX1_judge_0 18 rfl rfl)
theorem dX1_judge_21 : decode cX1_judge 21 = .ok (.aload_n 0, 1) := dk_42 (dk_at dksX1_judge_0 21 rfl rfl)
theorem dX1_judge_22 : decode cX1_judge 22 = .ok (.getfield 101, 3) := dk_180 0 101 (dk_at dksX1_judge_1 0 rfl rfl)
theorem dX1_judge_25 : decode cX1_judge 25 = .ok (.invokevirtual 111, 3) := dk_182 0 111 (dk_at dksX1_judge_1 3 rfl rfl)
theorem dX1_judge_28 : decode cX1_judge 28 = .ok (.pop, 1) := dk_87 (dk_at dksX1_judge_1 6 rfl rfl)
theorem dX1_judge_29 : decode cX1_judge 29 = .ok (.aload_n 0, 1) := dk_42 (dk_at dksX1_judge_1 7 rfl rfl)
theorem dX1_judge_30 : decode cX1_judge 30 = .ok (.invokevirtual 278, 3) := dk_182 1 22 (dk_at dksX1_judge_1 8 rfl rfl)
theorem dX1_judge_33 : decode cX1_judge 33 = .ok (.ireturn, 1) := dk_172 (dk_at dksX1_judge_1 11 rfl rfl)
abbrev cX1_begs : ByteArray := prog_1_method_64_code
def yX1_begs : MethodName := ⟨RX1, "begs", "(IZZZ)I"⟩
def dkwX1_begs_2 : List UInt8 := [153, 0, 11, 28, 29, 184, 1, 42, 167, 0, 9, 27, 28, 29, 184, 1, 45, 172]
abbrev dktX1_begs_2 : List UInt8 := dkwX1_begs_2 ++ []
def dkwX1_begs_1 : List UInt8 := [184, 0, 86, 182, 0, 195, 181, 0, 73, 42, 180, 0, 73, 153, 0, 8, 16, 156, 167, 0, 22, 21, 4]
abbrev dktX1_begs_1 : List UInt8 := dkwX1_begs_1 ++ dktX1_begs_2
def dkwX1_begs_0 : List UInt8 := [42, 182, 0, 76, 42, 42, 42, 180, 0, 101, 198, 0, 7, 4, 167, 0, 4, 3, 27, 3, 16, 9]
abbrev dktX1_begs_0 : List UInt8 := dkwX1_begs_0 ++ dktX1_begs_1
theorem dksX1_begs_0 : cX1_begs.data.toList.drop 0 = dktX1_begs_0 := by decide +kernel
theorem dksX1_begs_1 : cX1_begs.data.toList.drop 22 = dktX1_begs_1 := dk_seg dksX1_begs_0 22 rfl rfl
theorem dksX1_begs_2 : cX1_begs.data.toList.drop 45 = dktX1_begs_2 := dk_seg dksX1_begs_1 23 rfl rfl
theorem dX1_begs_0 : decode cX1_begs 0 = .ok (.aload_n 0, 1) := dk_42 (dk_at dksX1_begs_0 0 rfl rfl)
theorem dX1_begs_1 : decode cX1_begs 1 = .ok (.invokevirtual 76, 3) := dk_182 0 76 (dk_at dksX1_begs_0 1 rfl rfl)
theorem dX1_begs_4 : decode cX1_begs 4 = .ok (.aload_n 0, 1) := dk_42 (dk_at dksX1_begs_0 4 rfl rfl)
theorem dX1_begs_5 : decode cX1_begs 5 = .ok (.aload_n 0, 1) := dk_42 (dk_at dksX1_begs_0 5 rfl rfl)
theorem dX1_begs_6 : decode cX1_begs 6 = .ok (.aload_n 0, 1) := dk_42 (dk_at dksX1_begs_0 6 rfl rfl)
theorem dX1_begs_7 : decode cX1_begs 7 = .ok (.getfield 101, 3) := dk_180 0 101 (dk_at dksX1_begs_0 7 rfl rfl)
theorem dX1_begs_10 : decode cX1_begs 10 = .ok (.ifnull 7, 3) := dk_198 0 7 (dk_at dksX1_begs_0 10 rfl rfl)
theorem dX1_begs_13 : decode cX1_begs 13 = .ok (.iconst 1, 1) := dk_4 (dk_at dksX1_begs_0 13 rfl rfl)
theorem dX1_begs_14 : decode cX1_begs 14 = .ok (.goto 4, 3) := dk_167 0 4 (dk_at dksX1_begs_0 14 rfl rfl)
theorem dX1_begs_17 : decode cX1_begs 17 = .ok (.iconst 0, 1) := dk_3 (dk_at dksX1_begs_0 17 rfl rfl)
theorem dX1_begs_18 : decode cX1_begs 18 = .ok (.iload_n 1, 1) := dk_27 (dk_at dksX1_begs_0 18 rfl rfl)
theorem dX1_begs_19 : decode cX1_begs 19 = .ok (.iconst 0, 1) := dk_3 (dk_at dksX1_begs_0 19 rfl rfl)
theorem dX1_begs_20 : decode cX1_begs 20 = .ok (.bipush 9, 2) := dk_16 9 (dk_at dksX1_begs_0 20 rfl rfl)
theorem dX1_begs_22 : decode cX1_begs 22 = .ok (.invokestatic 86, 3) := dk_184 0 86 (dk_at dksX1_begs_1 0 rfl rfl)
theorem dX1_begs_25 : decode cX1_begs 25 = .ok (.invokevirtual 195, 3) := dk_182 0 195 (dk_at dksX1_begs_1 3 rfl rfl)
theorem dX1_begs_28 : decode cX1_begs 28 = .ok (.putfield 73, 3) := dk_181 0 73 (dk_at dksX1_begs_1 6 rfl rfl)
theorem dX1_begs_31 : decode cX1_begs 31 = .ok (.aload_n 0, 1) := dk_42 (dk_at dksX1_begs_1 9 rfl rfl)
theorem dX1_begs_32 : decode cX1_begs 32 = .ok (.getfield 73, 3) := dk_180 0 73 (dk_at dksX1_begs_1 10 rfl rfl)
theorem dX1_begs_35 : decode cX1_begs 35 = .ok (.ifCond .eq 8, 3) := dk_153 0 8 (dk_at dksX1_begs_1 13 rfl rfl)
theorem dX1_begs_38 : decode cX1_begs 38 = .ok (.bipush (-100), 2) := dk_16 156 (dk_at dksX1_begs_1 16 rfl rfl)
theorem dX1_begs_40 : decode cX1_begs 40 = .ok (.goto 22, 3) := dk_167 0 22 (dk_at dksX1_begs_1 18 rfl rfl)
theorem dX1_begs_43 : decode cX1_begs 43 = .ok (.iload 4, 2) := dk_21 4 (dk_at dksX1_begs_1 21 rfl rfl)
theorem dX1_begs_45 : decode cX1_begs 45 = .ok (.ifCond .eq 11, 3) := dk_153 0 11 (dk_at dksX1_begs_2 0 rfl rfl)
theorem dX1_begs_48 : decode cX1_begs 48 = .ok (.iload_n 2, 1) := dk_28 (dk_at dksX1_begs_2 3 rfl rfl)
theorem dX1_begs_49 : decode cX1_begs 49 = .ok (.iload_n 3, 1) := dk_29 (dk_at dksX1_begs_2 4 rfl rfl)
theorem dX1_begs_50 : decode cX1_begs 50 = .ok (.invokestatic 298, 3) := dk_184 1 42 (dk_at dksX1_begs_2 5 rfl rfl)
theorem dX1_begs_53 : decode cX1_begs 53 = .ok (.goto 9, 3) := dk_167 0 9 (dk_at dksX1_begs_2 8 rfl rfl)
theorem dX1_begs_56 : decode cX1_begs 56 = .ok (.iload_n 1, 1) := dk_27 (dk_at dksX1_begs_2 11 rfl rfl)
theorem dX1_begs_57 : decode cX1_begs 57 = .ok (.iload_n 2, 1) := dk_28 (dk_at dksX1_begs_2 12 rfl rfl)
theorem dX1_begs_58 : decode cX1_begs 58 = .ok (.iload_n 3, 1) := dk_29 (dk_at dksX1_begs_2 13 rfl rfl)
theorem dX1_begs_59 : decode cX1_begs 59 = .ok (.invokestatic 301, 3) := dk_184 1 45 (dk_at dksX1_begs_2 14 rfl rfl)
theorem dX1_begs_62 : decode cX1_begs 62 = .ok (.ireturn, 1) := dk_172 (dk_at dksX1_begs_2 17 rfl rfl)
abbrev cX1_beggars : ByteArray := prog_1_method_63_code
def yX1_beggars : MethodName := ⟨RX1, "beggars", "(ZZ)I"⟩
def dkwX1_beggars_0 : List UInt8 := [27, 154, 0, 7, 3, 167, 0, 12, 26, 153, 0, 7, 7, 167, 0, 4, 2, 172]
abbrev dktX1_beggars_0 : List UInt8 := dkwX1_beggars_0 ++ []
theorem dksX1_beggars_0 : cX1_beggars.data.toList.drop 0 = dktX1_beggars_0 := by decide +kernel
theorem dX1_beggars_0 : decode cX1_beggars 0 = .ok (.iload_n 1, 1) := dk_27 (dk_at dksX1_beggars_0 0 rfl rfl)
theorem dX1_beggars_1 : decode cX1_beggars 1 = .ok (.ifCond .ne 7, 3) := dk_154 0 7 (dk_at dksX1_beggars_0 1 rfl rfl)
theorem dX1_beggars_4 : decode cX1_beggars 4 = .ok (.iconst 0, 1) := dk_3 (dk_at dksX1_beggars_0 4 rfl rfl)
theorem dX1_beggars_5 : decode cX1_beggars 5 = .ok (.goto 12, 3) := dk_167 0 12 (dk_at dksX1_beggars_0 5 rfl rfl)
theorem dX1_beggars_8 : decode cX1_beggars 8 = .ok (.iload_n 0, 1) := dk_26 (dk_at dksX1_beggars_0 8 rfl rfl)
theorem dX1_beggars_9 : decode cX1_beggars 9 = .ok (.ifCond .eq 7, 3) := dk_153 0 7 (dk_at dksX1_beggars_0 9 rfl rfl)
theorem dX1_beggars_12 : decode cX1_beggars 12 = .ok (.iconst 4, 1) := dk_7 (dk_at dksX1_beggars_0 12 rfl rfl)
theorem dX1_beggars_13 : decode cX1_beggars 13 = .ok (.goto 4, 3) := dk_167 0 4 (dk_at dksX1_beggars_0 13 rfl rfl)
theorem dX1_beggars_16 : decode cX1_beggars 16 = .ok (.iconst (-1), 1) := dk_2 (dk_at dksX1_beggars_0 16 rfl rfl)
theorem dX1_beggars_17 : decode cX1_beggars 17 = .ok (.ireturn, 1) := dk_172 (dk_at dksX1_beggars_0 17 rfl rfl)
abbrev cX1_richs : ByteArray := prog_1_method_62_code
def yX1_richs : MethodName := ⟨RX1, "richs", "(IZZ)I"⟩
def dkwX1_richs_1 : List UInt8 := [167, 0, 4, 3, 172]
abbrev dktX1_richs_1 : List UInt8 := dkwX1_richs_1 ++ []
def dkwX1_richs_0 : List UInt8 := [27, 153, 0, 16, 28, 153, 0, 8, 16, 254, 167, 0, 17, 4, 167, 0, 13, 28, 153, 0, 8, 26, 116]
abbrev dktX1_richs_0 : List UInt8 := dkwX1_richs_0 ++ dktX1_richs_1
theorem dksX1_richs_0 : cX1_richs.data.toList.drop 0 = dktX1_richs_0 := by decide +kernel
theorem dksX1_richs_1 : cX1_richs.data.toList.drop 23 = dktX1_richs_1 := dk_seg dksX1_richs_0 23 rfl rfl
theorem dX1_richs_0 : decode cX1_richs 0 = .ok (.iload_n 1, 1) := dk_27 (dk_at dksX1_richs_0 0 rfl rfl)
theorem dX1_richs_1 : decode cX1_richs 1 = .ok (.ifCond .eq 16, 3) := dk_153 0 16 (dk_at dksX1_richs_0 1 rfl rfl)
theorem dX1_richs_4 : decode cX1_richs 4 = .ok (.iload_n 2, 1) := dk_28 (dk_at dksX1_richs_0 4 rfl rfl)
theorem dX1_richs_5 : decode cX1_richs 5 = .ok (.ifCond .eq 8, 3) := dk_153 0 8 (dk_at dksX1_richs_0 5 rfl rfl)
theorem dX1_richs_8 : decode cX1_richs 8 = .ok (.bipush (-2), 2) := dk_16 254 (dk_at dksX1_richs_0 8 rfl rfl)
theorem dX1_richs_10 : decode cX1_richs 10 = .ok (.goto 17, 3) := dk_167 0 17 (dk_at dksX1_richs_0 10 rfl rfl)
theorem dX1_richs_13 : decode cX1_richs 13 = .ok (.iconst 1, 1) := dk_4 (dk_at dksX1_richs_0 13 rfl rfl)
theorem dX1_richs_14 : decode cX1_richs 14 = .ok (.goto 13, 3) := dk_167 0 13 (dk_at dksX1_richs_0 14 rfl rfl)
theorem dX1_richs_17 : decode cX1_richs 17 = .ok (.iload_n 2, 1) := dk_28 (dk_at dksX1_richs_0 17 rfl rfl)
theorem dX1_richs_18 : decode cX1_richs 18 = .ok (.ifCond .eq 8, 3) := dk_153 0 8 (dk_at dksX1_richs_0 18 rfl rfl)
theorem dX1_richs_21 : decode cX1_richs 21 = .ok (.iload_n 0, 1) := dk_26 (dk_at dksX1_richs_0 21 rfl rfl)
theorem dX1_richs_22 : decode cX1_richs 22 = .ok (.ineg, 1) := dk_116 (dk_at dksX1_richs_0 22 rfl rfl)
theorem dX1_richs_23 : decode cX1_richs 23 = .ok (.goto 4, 3) := dk_167 0 4 (dk_at dksX1_richs_1 0 rfl rfl)
theorem dX1_richs_26 : decode cX1_richs 26 = .ok (.iconst 0, 1) := dk_3 (dk_at dksX1_richs_1 3 rfl rfl)
theorem dX1_richs_27 : decode cX1_richs 27 = .ok (.ireturn, 1) := dk_172 (dk_at dksX1_richs_1 4 rfl rfl)
abbrev cX1_rests : ByteArray := prog_1_method_67_code
def yX1_rests : MethodName := ⟨RX1, "rests", "(I)I"⟩
def dkwX1_rests_1 : List UInt8 := [182, 0, 195, 61, 28, 153, 0, 11, 42, 28, 182, 0, 90, 167, 0, 8, 42, 27, 182, 1, 56, 172]
abbrev dktX1_rests_1 : List UInt8 := dkwX1_rests_1 ++ []
def dkwX1_rests_0 : List UInt8 := [42, 182, 0, 76, 42, 42, 180, 0, 101, 198, 0, 7, 4, 167, 0, 4, 3, 27, 3, 16, 9, 184, 0, 86]
abbrev dktX1_rests_0 : List UInt8 := dkwX1_rests_0 ++ dktX1_rests_1
theorem dksX1_rests_0 : cX1_rests.data.toList.drop 0 = dktX1_rests_0 := by decide +kernel
theorem dksX1_rests_1 : cX1_rests.data.toList.drop 24 = dktX1_rests_1 := dk_seg dksX1_rests_0 24 rfl rfl
theorem dX1_rests_0 : decode cX1_rests 0 = .ok (.aload_n 0, 1) := dk_42 (dk_at dksX1_rests_0 0 rfl rfl)
theorem dX1_rests_1 : decode cX1_rests 1 = .ok (.invokevirtual 76, 3) := dk_182 0 76 (dk_at dksX1_rests_0 1 rfl rfl)
theorem dX1_rests_4 : decode cX1_rests 4 = .ok (.aload_n 0, 1) := dk_42 (dk_at dksX1_rests_0 4 rfl rfl)
theorem dX1_rests_5 : decode cX1_rests 5 = .ok (.aload_n 0, 1) := dk_42 (dk_at dksX1_rests_0 5 rfl rfl)
theorem dX1_rests_6 : decode cX1_rests 6 = .ok (.getfield 101, 3) := dk_180 0 101 (dk_at dksX1_rests_0 6 rfl rfl)
theorem dX1_rests_9 : decode cX1_rests 9 = .ok (.ifnull 7, 3) := dk_198 0 7 (dk_at dksX1_rests_0 9 rfl rfl)
theorem dX1_rests_12 : decode cX1_rests 12 = .ok (.iconst 1, 1) := dk_4 (dk_at dksX1_rests_0 12 rfl rfl)
theorem dX1_rests_13 : decode cX1_rests 13 = .ok (.goto 4, 3) := dk_167 0 4 (dk_at dksX1_rests_0 13 rfl rfl)
theorem dX1_rests_16 : decode cX1_rests 16 = .ok (.iconst 0, 1) := dk_3 (dk_at dksX1_rests_0 16 rfl rfl)
theorem dX1_rests_17 : decode cX1_rests 17 = .ok (.iload_n 1, 1) := dk_27 (dk_at dksX1_rests_0 17 rfl rfl)
theorem dX1_rests_18 : decode cX1_rests 18 = .ok (.iconst 0, 1) := dk_3 (dk_at dksX1_rests_0 18 rfl rfl)
theorem dX1_rests_19 : decode cX1_rests 19 = .ok (.bipush 9, 2) := dk_16 9 (dk_at dksX1_rests_0 19 rfl rfl)
theorem dX1_rests_21 : decode cX1_rests 21 = .ok (.invokestatic 86, 3) := dk_184 0 86 (dk_at dksX1_rests_0 21 rfl rfl)
theorem dX1_rests_24 : decode cX1_rests 24 = .ok (.invokevirtual 195, 3) := dk_182 0 195 (dk_at dksX1_rests_1 0 rfl rfl)
theorem dX1_rests_27 : decode cX1_rests 27 = .ok (.istore_n 2, 1) := dk_61 (dk_at dksX1_rests_1 3 rfl rfl)
theorem dX1_rests_28 : decode cX1_rests 28 = .ok (.iload_n 2, 1) := dk_28 (dk_at dksX1_rests_1 4 rfl rfl)
theorem dX1_rests_29 : decode cX1_rests 29 = .ok (.ifCond .eq 11, 3) := dk_153 0 11 (dk_at dksX1_rests_1 5 rfl rfl)
theorem dX1_rests_32 : decode cX1_rests 32 = .ok (.aload_n 0, 1) := dk_42 (dk_at dksX1_rests_1 8 rfl rfl)
theorem dX1_rests_33 : decode cX1_rests 33 = .ok (.iload_n 2, 1) := dk_28 (dk_at dksX1_rests_1 9 rfl rfl)
theorem dX1_rests_34 : decode cX1_rests 34 = .ok (.invokevirtual 90, 3) := dk_182 0 90 (dk_at dksX1_rests_1 10 rfl rfl)
theorem dX1_rests_37 : decode cX1_rests 37 = .ok (.goto 8, 3) := dk_167 0 8 (dk_at dksX1_rests_1 13 rfl rfl)
theorem dX1_rests_40 : decode cX1_rests 40 = .ok (.aload_n 0, 1) := dk_42 (dk_at dksX1_rests_1 16 rfl rfl)
theorem dX1_rests_41 : decode cX1_rests 41 = .ok (.iload_n 1, 1) := dk_27 (dk_at dksX1_rests_1 17 rfl rfl)
theorem dX1_rests_42 : decode cX1_rests 42 = .ok (.invokevirtual 312, 3) := dk_182 1 56 (dk_at dksX1_rests_1 18 rfl rfl)
theorem dX1_rests_45 : decode cX1_rests 45 = .ok (.ireturn, 1) := dk_172 (dk_at dksX1_rests_1 21 rfl rfl)
abbrev cX1_seekRests : ByteArray := prog_1_method_66_code
def yX1_seekRests : MethodName := ⟨RX1, "seekRests", "(I)I"⟩
def dkwX1_seekRests_3 : List UInt8 := [132, 3, 1, 167, 255, 195, 28, 172]
abbrev dktX1_seekRests_3 : List UInt8 := dkwX1_seekRests_3 ++ []
def dkwX1_seekRests_2 : List UInt8 := [167, 0, 24, 28, 154, 0, 17, 42, 16, 10, 29, 5, 108, 104, 29, 5, 112, 96, 181, 1, 49, 132, 2, 1]
abbrev dktX1_seekRests_2 : List UInt8 := dkwX1_seekRests_2 ++ dktX1_seekRests_3
def dkwX1_seekRests_1 : List UInt8 := [167, 0, 4, 3, 29, 5, 112, 4, 160, 0, 7, 4, 167, 0, 4, 3, 184, 1, 52, 154, 0, 6]
abbrev dktX1_seekRests_1 : List UInt8 := dkwX1_seekRests_1 ++ dktX1_seekRests_2
def dkwX1_seekRests_0 : List UInt8 := [3, 61, 42, 16, 254, 181, 1, 49, 3, 62, 29, 7, 162, 0, 62, 27, 29, 4, 164, 0, 7, 4]
abbrev dktX1_seekRests_0 : List UInt8 := dkwX1_seekRests_0 ++ dktX1_seekRests_1
theorem dksX1_seekRests_0 : cX1_seekRests.data.toList.drop 0 = dktX1_seekRests_0 := by decide +kernel
theorem dksX1_seekRests_1 : cX1_seekRests.data.toList.drop 22 = dktX1_seekRests_1 := dk_seg dksX1_seekRests_0 22 rfl rfl
theorem dksX1_seekRests_2 : cX1_seekRests.data.toList.drop 44 = dktX1_seekRests_2 := dk_seg dksX1_seekRests_1 22 rfl rfl
theorem dksX1_seekRests_3 : cX1_seekRests.data.toList.drop 68 = dktX1_seekRests_3 := dk_seg dksX1_seekRests_2 24 rfl rfl
theorem dX1_seekRests_0 : decode cX1_seekRests 0 = .ok (.iconst 0, 1) := dk_3 (dk_at dksX1_seekRests_0 0 rfl rfl)
theorem dX1_seekRests_1 : decode cX1_seekRests 1 = .ok (.istore_n 2, 1) := dk_61 (dk_at dksX1_seekRests_0 1 rfl rfl)
theorem dX1_seekRests_2 : decode cX1_seekRests 2 = .ok (.aload_n 0, 1) := dk_42 (dk_at dksX1_seekRests_0 2 rfl rfl)
theorem dX1_seekRests_3 : decode cX1_seekRests 3 = .ok (.bipush (-2), 2) := dk_16 254 (dk_at dksX1_seekRests_0 3 rfl rfl)
theorem dX1_seekRests_5 : decode cX1_seekRests 5 = .ok (.putfield 305, 3) := dk_181 1 49 (dk_at dksX1_seekRests_0 5 rfl rfl)
theorem dX1_seekRests_8 : decode cX1_seekRests 8 = .ok (.iconst 0, 1) := dk_3 (dk_at dksX1_seekRests_0 8 rfl rfl)
theorem dX1_seekRests_9 : decode cX1_seekRests 9 = .ok (.istore_n 3, 1) := dk_62 (dk_at dksX1_seekRests_0 9 rfl rfl)
theorem dX1_seekRests_10 : decode cX1_seekRests 10 = .ok (.iload_n 3, 1) := dk_29 (dk_at dksX1_seekRests_0 10 rfl rfl)
theorem dX1_seekRests_11 : decode cX1_seekRests 11 = .ok (.iconst 4, 1) := dk_7 (dk_at dksX1_seekRests_0 11 rfl rfl)
theorem dX1_seekRests_12 : decode cX1_seekRests 12 = .ok (.if_icmp .ge 62, 3) := dk_162 0 62 (dk_at dksX1_seekRests_0 12 rfl rfl)
theorem dX1_seekRests_15 : decode cX1_seekRests 15 = .ok (.iload_n 1, 1) := dk_27 (dk_at dksX1_seekRests_0 15 rfl rfl)
theorem dX1_seekRests_16 : decode cX1_seekRests 16 = .ok (.iload_n 3, 1) := dk_29 (dk_at dksX1_seekRests_0 16 rfl rfl)
theorem dX1_seekRests_17 : decode cX1_seekRests 17 = .ok (.iconst 1, 1) := dk_4 (dk_at dksX1_seekRests_0 17 rfl rfl)
theorem dX1_seekRests_18 : decode cX1_seekRests 18 = .ok (.if_icmp .le 7, 3) := dk_164 0 7 (dk_at dksX1_seekRests_0 18 rfl rfl)
theorem dX1_seekRests_21 : decode cX1_seekRests 21 = .ok (.iconst 1, 1) := dk_4 (dk_at dksX1_seekRests_0 21 rfl rfl)
theorem dX1_seekRests_22 : decode cX1_seekRests 22 = .ok (.goto 4, 3) := dk_167 0 4 (dk_at dksX1_seekRests_1 0 rfl rfl)
theorem dX1_seekRests_25 : decode cX1_seekRests 25 = .ok (.iconst 0, 1) := dk_3 (dk_at dksX1_seekRests_1 3 rfl rfl)
theorem dX1_seekRests_26 : decode cX1_seekRests 26 = .ok (.iload_n 3, 1) := dk_29 (dk_at dksX1_seekRests_1 4 rfl rfl)
theorem dX1_seekRests_27 : decode cX1_seekRests 27 = .ok (.iconst 2, 1) := dk_5 (dk_at dksX1_seekRests_1 5 rfl rfl)
theorem dX1_seekRests_28 : decode cX1_seekRests 28 = .ok (.irem, 1) := dk_112 (dk_at dksX1_seekRests_1 6 rfl rfl)
theorem dX1_seekRests_29 : decode cX1_seekRests 29 = .ok (.iconst 1, 1) := dk_4 (dk_at dksX1_seekRests_1 7 rfl rfl)
theorem dX1_seekRests_30 : decode cX1_seekRests 30 = .ok (.if_icmp .ne 7, 3) := dk_160 0 7 (dk_at dksX1_seekRests_1 8 rfl rfl)
theorem dX1_seekRests_33 : decode cX1_seekRests 33 = .ok (.iconst 1, 1) := dk_4 (dk_at dksX1_seekRests_1 11 rfl rfl)
theorem dX1_seekRests_34 : decode cX1_seekRests 34 = .ok (.goto 4, 3) := dk_167 0 4 (dk_at dksX1_seekRests_1 12 rfl rfl)
theorem dX1_seekRests_37 : decode cX1_seekRests 37 = .ok (.iconst 0, 1) := dk_3 (dk_at dksX1_seekRests_1 15 rfl rfl)
theorem dX1_seekRests_38 : decode cX1_seekRests 38 = .ok (.invokestatic 308, 3) := dk_184 1 52 (dk_at dksX1_seekRests_1 16 rfl rfl)
theorem dX1_seekRests_41 : decode cX1_seekRests 41 = .ok (.ifCond .ne 6, 3) := dk_154 0 6 (dk_at dksX1_seekRests_1 19 rfl rfl)
theorem dX1_seekRests_44 : decode cX1_seekRests 44 = .ok (.goto 24, 3) := dk_167 0 24 (dk_at dksX1_seekRests_2 0 rfl rfl)
theorem dX1_seekRests_47 : decode cX1_seekRests 47 = .ok (.iload_n 2, 1) := dk_28 (dk_at dksX1_seekRests_2 3 rfl rfl)
theorem dX1_seekRests_48 : decode cX1_seekRests 48 = .ok (.ifCond .ne 17, 3) := dk_154 0 17 (dk_at dksX1_seekRests_2 4 rfl rfl)
theorem dX1_seekRests_51 : decode cX1_seekRests 51 = .ok (.aload_n 0, 1) := dk_42 (dk_at dksX1_seekRests_2 7 rfl rfl)
theorem dX1_seekRests_52 : decode cX1_seekRests 52 = .ok (.bipush 10, 2) := dk_16 10 (dk_at dksX1_seekRests_2 8 rfl rfl)
theorem dX1_seekRests_54 : decode cX1_seekRests 54 = .ok (.iload_n 3, 1) := dk_29 (dk_at dksX1_seekRests_2 10 rfl rfl)
theorem dX1_seekRests_55 : decode cX1_seekRests 55 = .ok (.iconst 2, 1) := dk_5 (dk_at dksX1_seekRests_2 11 rfl rfl)
theorem dX1_seekRests_56 : decode cX1_seekRests 56 = .ok (.idiv, 1) := dk_108 (dk_at dksX1_seekRests_2 12 rfl rfl)
theorem dX1_seekRests_57 : decode cX1_seekRests 57 = .ok (.imul, 1) := dk_104 (dk_at dksX1_seekRests_2 13 rfl rfl)
theorem dX1_seekRests_58 : decode cX1_seekRests 58 = .ok (.iload_n 3, 1) := dk_29 (dk_at dksX1_seekRests_2 14 rfl rfl)
theorem dX1_seekRests_59 : decode cX1_seekRests 59 = .ok (.iconst 2, 1) := dk_5 (dk_at dksX1_seekRests_2 15 rfl rfl)
theorem dX1_seekRests_60 : decode cX1_seekRests 60 = .ok (.irem, 1) := dk_112 (dk_at dksX1_seekRests_2 16 rfl rfl)
theorem dX1_seekRests_61 : decode cX1_seekRests 61 = .ok (.iadd, 1) := dk_96 (dk_at dksX1_seekRests_2 17 rfl rfl)
theorem dX1_seekRests_62 : decode cX1_seekRests 62 = .ok (.putfield 305, 3) := dk_181 1 49 (dk_at dksX1_seekRests_2 18 rfl rfl)
theorem dX1_seekRests_65 : decode cX1_seekRests 65 = .ok (.iinc 2 1, 3) := dk_132 2 1 (dk_at dksX1_seekRests_2 21 rfl rfl)
theorem dX1_seekRests_68 : decode cX1_seekRests 68 = .ok (.iinc 3 1, 3) := dk_132 3 1 (dk_at dksX1_seekRests_3 0 rfl rfl)
theorem dX1_seekRests_71 : decode cX1_seekRests 71 = .ok (.goto (-61), 3) := dk_167 255 195 (dk_at dksX1_seekRests_3 3 rfl rfl)
theorem dX1_seekRests_74 : decode cX1_seekRests 74 = .ok (.iload_n 2, 1) := dk_28 (dk_at dksX1_seekRests_3 6 rfl rfl)
theorem dX1_seekRests_75 : decode cX1_seekRests 75 = .ok (.ireturn, 1) := dk_172 (dk_at dksX1_seekRests_3 7 rfl rfl)
abbrev cX1_isRest : ByteArray := prog_1_method_65_code
def yX1_isRest : MethodName := ⟨RX1, "isRest", "(IZZ)Z"⟩
def dkwX1_isRest_2 : List UInt8 := [3, 172]
abbrev dktX1_isRest_2 : List UInt8 := dkwX1_isRest_2 ++ []
def dkwX1_isRest_1 : List UInt8 := [28, 154, 0, 7, 4, 167, 0, 4, 3, 184, 1, 42, 27, 28, 184, 1, 42, 163, 0, 7, 4, 167, 0, 4]
abbrev dktX1_isRest_1 : List UInt8 := dkwX1_isRest_1 ++ dktX1_isRest_2
def dkwX1_isRest_0 : List UInt8 := [26, 27, 154, 0, 7, 4, 167, 0, 4, 3, 28, 184, 1, 45, 26, 27, 28, 184, 1, 45, 163, 0, 28, 27]
abbrev dktX1_isRest_0 : List UInt8 := dkwX1_isRest_0 ++ dktX1_isRest_1
theorem dksX1_isRest_0 : cX1_isRest.data.toList.drop 0 = dktX1_isRest_0 := by decide +kernel
theorem dksX1_isRest_1 : cX1_isRest.data.toList.drop 24 = dktX1_isRest_1 := dk_seg dksX1_isRest_0 24 rfl rfl
theorem dksX1_isRest_2 : cX1_isRest.data.toList.drop 48 = dktX1_isRest_2 := dk_seg dksX1_isRest_1 24 rfl rfl
theorem dX1_isRest_0 : decode cX1_isRest 0 = .ok (.iload_n 0, 1) := dk_26 (dk_at dksX1_isRest_0 0 rfl rfl)
theorem dX1_isRest_1 : decode cX1_isRest 1 = .ok (.iload_n 1, 1) := dk_27 (dk_at dksX1_isRest_0 1 rfl rfl)
theorem dX1_isRest_2 : decode cX1_isRest 2 = .ok (.ifCond .ne 7, 3) := dk_154 0 7 (dk_at dksX1_isRest_0 2 rfl rfl)
theorem dX1_isRest_5 : decode cX1_isRest 5 = .ok (.iconst 1, 1) := dk_4 (dk_at dksX1_isRest_0 5 rfl rfl)
theorem dX1_isRest_6 : decode cX1_isRest 6 = .ok (.goto 4, 3) := dk_167 0 4 (dk_at dksX1_isRest_0 6 rfl rfl)
theorem dX1_isRest_9 : decode cX1_isRest 9 = .ok (.iconst 0, 1) := dk_3 (dk_at dksX1_isRest_0 9 rfl rfl)
theorem dX1_isRest_10 : decode cX1_isRest 10 = .ok (.iload_n 2, 1) := dk_28 (dk_at dksX1_isRest_0 10 rfl rfl)
theorem dX1_isRest_11 : decode cX1_isRest 11 = .ok (.invokestatic 301, 3) := dk_184 1 45 (dk_at dksX1_isRest_0 11 rfl rfl)
theorem dX1_isRest_14 : decode cX1_isRest 14 = .ok (.iload_n 0, 1) := dk_26 (dk_at dksX1_isRest_0 14 rfl rfl)
theorem dX1_isRest_15 : decode cX1_isRest 15 = .ok (.iload_n 1, 1) := dk_27 (dk_at dksX1_isRest_0 15 rfl rfl)
theorem dX1_isRest_16 : decode cX1_isRest 16 = .ok (.iload_n 2, 1) := dk_28 (dk_at dksX1_isRest_0 16 rfl rfl)
theorem dX1_isRest_17 : decode cX1_isRest 17 = .ok (.invokestatic 301, 3) := dk_184 1 45 (dk_at dksX1_isRest_0 17 rfl rfl)
theorem dX1_isRest_20 : decode cX1_isRest 20 = .ok (.if_icmp .gt 28, 3) := dk_163 0 28 (dk_at dksX1_isRest_0 20 rfl rfl)
theorem dX1_isRest_23 : decode cX1_isRest 23 = .ok (.iload_n 1, 1) := dk_27 (dk_at dksX1_isRest_0 23 rfl rfl)
theorem dX1_isRest_24 : decode cX1_isRest 24 = .ok (.iload_n 2, 1) := dk_28 (dk_at dksX1_isRest_1 0 rfl rfl)
theorem dX1_isRest_25 : decode cX1_isRest 25 = .ok (.ifCond .ne 7, 3) := dk_154 0 7 (dk_at dksX1_isRest_1 1 rfl rfl)
theorem dX1_isRest_28 : decode cX1_isRest 28 = .ok (.iconst 1, 1) := dk_4 (dk_at dksX1_isRest_1 4 rfl rfl)
theorem dX1_isRest_29 : decode cX1_isRest 29 = .ok (.goto 4, 3) := dk_167 0 4 (dk_at dksX1_isRest_1 5 rfl rfl)
theorem dX1_isRest_32 : decode cX1_isRest 32 = .ok (.iconst 0, 1) := dk_3 (dk_at dksX1_isRest_1 8 rfl rfl)
theorem dX1_isRest_33 : decode cX1_isRest 33 = .ok (.invokestatic 298, 3) := dk_184 1 42 (dk_at dksX1_isRest_1 9 rfl rfl)
theorem dX1_isRest_36 : decode cX1_isRest 36 = .ok (.iload_n 1, 1) := dk_27 (dk_at dksX1_isRest_1 12 rfl rfl)
theorem dX1_isRest_37 : decode cX1_isRest 37 = .ok (.iload_n 2, 1) := dk_28 (dk_at dksX1_isRest_1 13 rfl rfl)
theorem dX1_isRest_38 : decode cX1_isRest 38 = .ok (.invokestatic 298, 3) := dk_184 1 42 (dk_at dksX1_isRest_1 14 rfl rfl)
theorem dX1_isRest_41 : decode cX1_isRest 41 = .ok (.if_icmp .gt 7, 3) := dk_163 0 7 (dk_at dksX1_isRest_1 17 rfl rfl)
theorem dX1_isRest_44 : decode cX1_isRest 44 = .ok (.iconst 1, 1) := dk_4 (dk_at dksX1_isRest_1 20 rfl rfl)
theorem dX1_isRest_45 : decode cX1_isRest 45 = .ok (.goto 4, 3) := dk_167 0 4 (dk_at dksX1_isRest_1 21 rfl rfl)
theorem dX1_isRest_48 : decode cX1_isRest 48 = .ok (.iconst 0, 1) := dk_3 (dk_at dksX1_isRest_2 0 rfl rfl)
theorem dX1_isRest_49 : decode cX1_isRest 49 = .ok (.ireturn, 1) := dk_172 (dk_at dksX1_isRest_2 1 rfl rfl)
abbrev cX1_rest : ByteArray := prog_1_method_68_code
def yX1_rest : MethodName := ⟨RX1, "rest", "(I)I"⟩
def dkwX1_rest_2 : List UInt8 := [172]
abbrev dktX1_rest_2 : List UInt8 := dkwX1_rest_2 ++ []
def dkwX1_rest_1 : List UInt8 := [182, 0, 195, 61, 28, 153, 0, 9, 42, 28, 182, 0, 90, 172, 42, 27, 182, 1, 56, 87, 42, 180, 1, 49]
abbrev dktX1_rest_1 : List UInt8 := dkwX1_rest_1 ++ dktX1_rest_2
def dkwX1_rest_0 : List UInt8 := [42, 182, 0, 76, 42, 42, 180, 0, 101, 198, 0, 7, 4, 167, 0, 4, 3, 27, 3, 16, 9, 184, 0, 86]
abbrev dktX1_rest_0 : List UInt8 := dkwX1_rest_0 ++ dktX1_rest_1
theorem dksX1_rest_0 : cX1_rest.data.toList.drop 0 = dktX1_rest_0 := by decide +kernel
theorem dksX1_rest_1 : cX1_rest.data.toList.drop 24 = dktX1_rest_1 := dk_seg dksX1_rest_0 24 rfl rfl
theorem dksX1_rest_2 : cX1_rest.data.toList.drop 48 = dktX1_rest_2 := dk_seg dksX1_rest_1 24 rfl rfl
theorem dX1_rest_0 : decode cX1_rest 0 = .ok (.aload_n 0, 1) := dk_42 (dk_at dksX1_rest_0 0 rfl rfl)
theorem dX1_rest_1 : decode cX1_rest 1 = .ok (.invokevirtual 76, 3) := dk_182 0 76 (dk_at dksX1_rest_0 1 rfl rfl)
theorem dX1_rest_4 : decode cX1_rest 4 = .ok (.aload_n 0, 1) := dk_42 (dk_at dksX1_rest_0 4 rfl rfl)
theorem dX1_rest_5 : decode cX1_rest 5 = .ok (.aload_n 0, 1) := dk_42 (dk_at dksX1_rest_0 5 rfl rfl)
theorem dX1_rest_6 : decode cX1_rest 6 = .ok (.getfield 101, 3) := dk_180 0 101 (dk_at dksX1_rest_0 6 rfl rfl)
theorem dX1_rest_9 : decode cX1_rest 9 = .ok (.ifnull 7, 3) := dk_198 0 7 (dk_at dksX1_rest_0 9 rfl rfl)
theorem dX1_rest_12 : decode cX1_rest 12 = .ok (.iconst 1, 1) := dk_4 (dk_at dksX1_rest_0 12 rfl rfl)
theorem dX1_rest_13 : decode cX1_rest 13 = .ok (.goto 4, 3) := dk_167 0 4 (dk_at dksX1_rest_0 13 rfl rfl)
theorem dX1_rest_16 : decode cX1_rest 16 = .ok (.iconst 0, 1) := dk_3 (dk_at dksX1_rest_0 16 rfl rfl)
theorem dX1_rest_17 : decode cX1_rest 17 = .ok (.iload_n 1, 1) := dk_27 (dk_at dksX1_rest_0 17 rfl rfl)
theorem dX1_rest_18 : decode cX1_rest 18 = .ok (.iconst 0, 1) := dk_3 (dk_at dksX1_rest_0 18 rfl rfl)
theorem dX1_rest_19 : decode cX1_rest 19 = .ok (.bipush 9, 2) := dk_16 9 (dk_at dksX1_rest_0 19 rfl rfl)
theorem dX1_rest_21 : decode cX1_rest 21 = .ok (.invokestatic 86, 3) := dk_184 0 86 (dk_at dksX1_rest_0 21 rfl rfl)
theorem dX1_rest_24 : decode cX1_rest 24 = .ok (.invokevirtual 195, 3) := dk_182 0 195 (dk_at dksX1_rest_1 0 rfl rfl)
theorem dX1_rest_27 : decode cX1_rest 27 = .ok (.istore_n 2, 1) := dk_61 (dk_at dksX1_rest_1 3 rfl rfl)
theorem dX1_rest_28 : decode cX1_rest 28 = .ok (.iload_n 2, 1) := dk_28 (dk_at dksX1_rest_1 4 rfl rfl)
theorem dX1_rest_29 : decode cX1_rest 29 = .ok (.ifCond .eq 9, 3) := dk_153 0 9 (dk_at dksX1_rest_1 5 rfl rfl)
theorem dX1_rest_32 : decode cX1_rest 32 = .ok (.aload_n 0, 1) := dk_42 (dk_at dksX1_rest_1 8 rfl rfl)
theorem dX1_rest_33 : decode cX1_rest 33 = .ok (.iload_n 2, 1) := dk_28 (dk_at dksX1_rest_1 9 rfl rfl)
theorem dX1_rest_34 : decode cX1_rest 34 = .ok (.invokevirtual 90, 3) := dk_182 0 90 (dk_at dksX1_rest_1 10 rfl rfl)
theorem dX1_rest_37 : decode cX1_rest 37 = .ok (.ireturn, 1) := dk_172 (dk_at dksX1_rest_1 13 rfl rfl)
theorem dX1_rest_38 : decode cX1_rest 38 = .ok (.aload_n 0, 1) := dk_42 (dk_at dksX1_rest_1 14 rfl rfl)
theorem dX1_rest_39 : decode cX1_rest 39 = .ok (.iload_n 1, 1) := dk_27 (dk_at dksX1_rest_1 15 rfl rfl)
theorem dX1_rest_40 : decode cX1_rest 40 = .ok (.invokevirtual 312, 3) := dk_182 1 56 (dk_at dksX1_rest_1 16 rfl rfl)
theorem dX1_rest_43 : decode cX1_rest 43 = .ok (.pop, 1) := dk_87 (dk_at dksX1_rest_1 19 rfl rfl)
theorem dX1_rest_44 : decode cX1_rest 44 = .ok (.aload_n 0, 1) := dk_42 (dk_at dksX1_rest_1 20 rfl rfl)
theorem dX1_rest_45 : decode cX1_rest 45 = .ok (.getfield 305, 3) := dk_180 1 49 (dk_at dksX1_rest_1 21 rfl rfl)
theorem dX1_rest_48 : decode cX1_rest 48 = .ok (.ireturn, 1) := dk_172 (dk_at dksX1_rest_2 0 rfl rfl)
abbrev cX1_nights : ByteArray := prog_1_method_70_code
def yX1_nights : MethodName := ⟨RX1, "nights", "(III)I"⟩
def dkwX1_nights_1 : List UInt8 := [21, 4, 182, 0, 90, 167, 0, 12, 42, 180, 0, 40, 180, 0, 153, 27, 46, 172]
abbrev dktX1_nights_1 : List UInt8 := dkwX1_nights_1 ++ []
def dkwX1_nights_0 : List UInt8 := [42, 182, 0, 76, 42, 42, 27, 182, 0, 126, 28, 29, 182, 1, 73, 54, 4, 21, 4, 153, 0, 12, 42]
abbrev dktX1_nights_0 : List UInt8 := dkwX1_nights_0 ++ dktX1_nights_1
theorem dksX1_nights_0 : cX1_nights.data.toList.drop 0 = dktX1_nights_0 := by decide +kernel
theorem dksX1_nights_1 : cX1_nights.data.toList.drop 23 = dktX1_nights_1 := dk_seg dksX1_nights_0 23 rfl rfl
theorem dX1_nights_0 : decode cX1_nights 0 = .ok (.aload_n 0, 1) := dk_42 (dk_at dksX1_nights_0 0 rfl rfl)
theorem dX1_nights_1 : decode cX1_nights 1 = .ok (.invokevirtual 76, 3) := dk_182 0 76 (dk_at dksX1_nights_0 1 rfl rfl)
theorem dX1_nights_4 : decode cX1_nights 4 = .ok (.aload_n 0, 1) := dk_42 (dk_at dksX1_nights_0 4 rfl rfl)
theorem dX1_nights_5 : decode cX1_nights 5 = .ok (.aload_n 0, 1) := dk_42 (dk_at dksX1_nights_0 5 rfl rfl)
theorem dX1_nights_6 : decode cX1_nights 6 = .ok (.iload_n 1, 1) := dk_27 (dk_at dksX1_nights_0 6 rfl rfl)
theorem dX1_nights_7 : decode cX1_nights 7 = .ok (.invokevirtual 126, 3) := dk_182 0 126 (dk_at dksX1_nights_0 7 rfl rfl)
theorem dX1_nights_10 : decode cX1_nights 10 = .ok (.iload_n 2, 1) := dk_28 (dk_at dksX1_nights_0 10 rfl rfl)
theorem dX1_nights_11 : decode cX1_nights 11 = .ok (.iload_n 3, 1) := dk_29 (dk_at dksX1_nights_0 11 rfl rfl)
theorem dX1_nights_12 : decode cX1_nights 12 = .ok (.invokevirtual 329, 3) := dk_182 1 73 (dk_at dksX1_nights_0 12 rfl rfl)
theorem dX1_nights_15 : decode cX1_nights 15 = .ok (.istore 4, 2) := dk_54 4 (dk_at dksX1_nights_0 15 rfl rfl)
theorem dX1_nights_17 : decode cX1_nights 17 = .ok (.iload 4, 2) := dk_21 4 (dk_at dksX1_nights_0 17 rfl rfl)
theorem dX1_nights_19 : decode cX1_nights 19 = .ok (.ifCond .eq 12, 3) := dk_153 0 12 (dk_at dksX1_nights_0 19 rfl rfl)
theorem dX1_nights_22 : decode cX1_nights 22 = .ok (.aload_n 0, 1) := dk_42 (dk_at dksX1_nights_0 22 rfl rfl)
theorem dX1_nights_23 : decode cX1_nights 23 = .ok (.iload 4, 2) := dk_21 4 (dk_at dksX1_nights_1 0 rfl rfl)
theorem dX1_nights_25 : decode cX1_nights 25 = .ok (.invokevirtual 90, 3) := dk_182 0 90 (dk_at dksX1_nights_1 2 rfl rfl)
theorem dX1_nights_28 : decode cX1_nights 28 = .ok (.goto 12, 3) := dk_167 0 12 (dk_at dksX1_nights_1 5 rfl rfl)
theorem dX1_nights_31 : decode cX1_nights 31 = .ok (.aload_n 0, 1) := dk_42 (dk_at dksX1_nights_1 8 rfl rfl)
theorem dX1_nights_32 : decode cX1_nights 32 = .ok (.getfield 40, 3) := dk_180 0 40 (dk_at dksX1_nights_1 9 rfl rfl)
theorem dX1_nights_35 : decode cX1_nights 35 = .ok (.getfield 153, 3) := dk_180 0 153 (dk_at dksX1_nights_1 12 rfl rfl)
theorem dX1_nights_38 : decode cX1_nights 38 = .ok (.iload_n 1, 1) := dk_27 (dk_at dksX1_nights_1 15 rfl rfl)
theorem dX1_nights_39 : decode cX1_nights 39 = .ok (.iaload, 1) := dk_46 (dk_at dksX1_nights_1 16 rfl rfl)
theorem dX1_nights_40 : decode cX1_nights 40 = .ok (.ireturn, 1) := dk_172 (dk_at dksX1_nights_1 17 rfl rfl)
abbrev cX1_nightsWhy : ByteArray := prog_1_method_69_code
def yX1_nightsWhy : MethodName := ⟨RX1, "nightsWhy", "(ZII)I"⟩
def dkwX1_nightsWhy_6 : List UInt8 := [181, 1, 67, 132, 5, 1, 167, 255, 180, 3, 172]
abbrev dktX1_nightsWhy_6 : List UInt8 := dkwX1_nightsWhy_6 ++ []
def dkwX1_nightsWhy_5 : List UInt8 := [160, 0, 26, 42, 180, 0, 40, 180, 0, 187, 42, 180, 0, 33, 180, 0, 187, 164, 0, 9, 42, 21, 5]
abbrev dktX1_nightsWhy_5 : List UInt8 := dkwX1_nightsWhy_5 ++ dktX1_nightsWhy_6
def dkwX1_nightsWhy_4 : List UInt8 := [182, 0, 184, 87, 42, 180, 0, 40, 42, 180, 0, 70, 182, 1, 60, 87, 42, 180, 1, 67, 16, 254]
abbrev dktX1_nightsWhy_4 : List UInt8 := dkwX1_nightsWhy_4 ++ dktX1_nightsWhy_5
def dkwX1_nightsWhy_3 : List UInt8 := [163, 0, 76, 42, 180, 0, 40, 182, 1, 70, 54, 6, 42, 180, 0, 70, 42, 180, 0, 40, 21, 6]
abbrev dktX1_nightsWhy_3 : List UInt8 := dkwX1_nightsWhy_3 ++ dktX1_nightsWhy_4
def dkwX1_nightsWhy_2 : List UInt8 := [180, 0, 33, 182, 1, 60, 28, 181, 1, 64, 42, 16, 254, 181, 1, 67, 4, 54, 5, 21, 5, 29]
abbrev dktX1_nightsWhy_2 : List UInt8 := dkwX1_nightsWhy_2 ++ dktX1_nightsWhy_3
def dkwX1_nightsWhy_1 : List UInt8 := [167, 0, 4, 3, 182, 0, 195, 54, 4, 21, 4, 153, 0, 6, 21, 4, 172, 42, 180, 0, 40, 42]
abbrev dktX1_nightsWhy_1 : List UInt8 := dkwX1_nightsWhy_1 ++ dktX1_nightsWhy_2
def dkwX1_nightsWhy_0 : List UInt8 := [42, 27, 28, 3, 19, 1, 59, 184, 0, 86, 153, 0, 17, 29, 3, 16, 60, 184, 0, 86, 153, 0, 7, 4]
abbrev dktX1_nightsWhy_0 : List UInt8 := dkwX1_nightsWhy_0 ++ dktX1_nightsWhy_1
theorem dksX1_nightsWhy_0 : cX1_nightsWhy.data.toList.drop 0 = dktX1_nightsWhy_0 := by decide +kernel
theorem dksX1_nightsWhy_1 : cX1_nightsWhy.data.toList.drop 24 = dktX1_nightsWhy_1 := dk_seg dksX1_nightsWhy_0 24 rfl rfl
theorem dksX1_nightsWhy_2 : cX1_nightsWhy.data.toList.drop 46 = dktX1_nightsWhy_2 := dk_seg dksX1_nightsWhy_1 22 rfl rfl
theorem dksX1_nightsWhy_3 : cX1_nightsWhy.data.toList.drop 68 = dktX1_nightsWhy_3 := dk_seg dksX1_nightsWhy_2 22 rfl rfl
theorem dksX1_nightsWhy_4 : cX1_nightsWhy.data.toList.drop 90 = dktX1_nightsWhy_4 := dk_seg dksX1_nightsWhy_3 22 rfl rfl
theorem dksX1_nightsWhy_5 : cX1_nightsWhy.data.toList.drop 112 = dktX1_nightsWhy_5 := dk_seg dksX1_nightsWhy_4 22 rfl rfl
theorem dksX1_nightsWhy_6 : cX1_nightsWhy.data.toList.drop 135 = dktX1_nightsWhy_6 := dk_seg dksX1_nightsWhy_5 23 rfl rfl
theorem dX1_nightsWhy_0 : decode cX1_nightsWhy 0 = .ok (.aload_n 0, 1) := dk_42 (dk_at dksX1_nightsWhy_0 0 rfl rfl)
theorem dX1_nightsWhy_1 : decode cX1_nightsWhy 1 = .ok (.iload_n 1, 1) := dk_27 (dk_at dksX1_nightsWhy_0 1 rfl rfl)
theorem dX1_nightsWhy_2 : decode cX1_nightsWhy 2 = .ok (.iload_n 2, 1) := dk_28 (dk_at dksX1_nightsWhy_0 2 rfl rfl)
theorem dX1_nightsWhy_3 : decode cX1_nightsWhy 3 = .ok (.iconst 0, 1) := dk_3 (dk_at dksX1_nightsWhy_0 3 rfl rfl)
theorem dX1_nightsWhy_4 : decode cX1_nightsWhy 4 = .ok (.ldc_w 315, 3) := dk_19 1 59 (dk_at dksX1_nightsWhy_0 4 rfl rfl)
theorem dX1_nightsWhy_7 : decode cX1_nightsWhy 7 = .ok (.invokestatic 86, 3) := dk_184 0 86 (dk_at dksX1_nightsWhy_0 7 rfl rfl)
theorem dX1_nightsWhy_10 : decode cX1_nightsWhy 10 = .ok (.ifCond .eq 17, 3) := dk_153 0 17 (dk_at dksX1_nightsWhy_0 10 rfl rfl)
theorem dX1_nightsWhy_13 : decode cX1_nightsWhy 13 = .ok (.iload_n 3, 1) := dk_29 (dk_at dksX1_nightsWhy_0 13 rfl rfl)
theorem dX1_nightsWhy_14 : decode cX1_nightsWhy 14 = .ok (.iconst 0, 1) := dk_3 (dk_at dksX1_nightsWhy_0 14 rfl rfl)
theorem dX1_nightsWhy_15 : decode cX1_nightsWhy 15 = .ok (.bipush 60, 2) := dk_16 60 (dk_at dksX1_nightsWhy_0 15 rfl rfl)
theorem dX1_nightsWhy_17 : decode cX1_nightsWhy 17 = .ok (.invokestatic 86, 3) := dk_184 0 86 (dk_at dksX1_nightsWhy_0 17 rfl rfl)
theorem dX1_nightsWhy_20 : decode cX1_nightsWhy 20 = .ok (.ifCond .eq 7, 3) := dk_153 0 7 (dk_at dksX1_nightsWhy_0 20 rfl rfl)
theorem dX1_nightsWhy_23 : decode cX1_nightsWhy 23 = .ok (.iconst 1, 1) := dk_4 (dk_at dksX1_nightsWhy_0 23 rfl rfl)
theorem dX1_nightsWhy_24 : decode cX1_nightsWhy 24 = .ok (.goto 4, 3) := dk_167 0 4 (dk_at dksX1_nightsWhy_1 0 rfl rfl)
theorem dX1_nightsWhy_27 : decode cX1_nightsWhy 27 = .ok (.iconst 0, 1) := dk_3 (dk_at dksX1_nightsWhy_1 3 rfl rfl)
theorem dX1_nightsWhy_28 : decode cX1_nightsWhy 28 = .ok (.invokevirtual 195, 3) := dk_182 0 195 (dk_at dksX1_nightsWhy_1 4 rfl rfl)
theorem dX1_nightsWhy_31 : decode cX1_nightsWhy 31 = .ok (.istore 4, 2) := dk_54 4 (dk_at dksX1_nightsWhy_1 7 rfl rfl)
theorem dX1_nightsWhy_33 : decode cX1_nightsWhy 33 = .ok (.iload 4, 2) := dk_21 4 (dk_at dksX1_nightsWhy_1 9 rfl rfl)
theorem dX1_nightsWhy_35 : decode cX1_nightsWhy 35 = .ok (.ifCond .eq 6, 3) := dk_153 0 6 (dk_at dksX1_nightsWhy_1 11 rfl rfl)
theorem dX1_nightsWhy_38 : decode cX1_nightsWhy 38 = .ok (.iload 4, 2) := dk_21 4 (dk_at dksX1_nightsWhy_1 14 rfl rfl)
theorem dX1_nightsWhy_40 : decode cX1_nightsWhy 40 = .ok (.ireturn, 1) := dk_172 (dk_at dksX1_nightsWhy_1 16 rfl rfl)
theorem dX1_nightsWhy_41 : decode cX1_nightsWhy 41 = .ok (.aload_n 0, 1) := dk_42 (dk_at dksX1_nightsWhy_1 17 rfl rfl)
theorem dX1_nightsWhy_42 : decode cX1_nightsWhy 42 = .ok (.getfield 40, 3) := dk_180 0 40 (dk_at dksX1_nightsWhy_1 18 rfl rfl)
theorem dX1_nightsWhy_45 : decode cX1_nightsWhy 45 = .ok (.aload_n 0, 1) := dk_42 (dk_at dksX1_nightsWhy_1 21 rfl rfl)
theorem dX1_nightsWhy_46 : decode cX1_nightsWhy 46 = .ok (.getfield 33, 3) := dk_180 0 33 (dk_at dksX1_nightsWhy_2 0 rfl rfl)
theorem dX1_nightsWhy_49 : decode cX1_nightsWhy 49 = .ok (.invokevirtual 316, 3) := dk_182 1 60 (dk_at dksX1_nightsWhy_2 3 rfl rfl)
theorem dX1_nightsWhy_52 : decode cX1_nightsWhy 52 = .ok (.iload_n 2, 1) := dk_28 (dk_at dksX1_nightsWhy_2 6 rfl rfl)
theorem dX1_nightsWhy_53 : decode cX1_nightsWhy 53 = .ok (.putfield 320, 3) := dk_181 1 64 (dk_at dksX1_nightsWhy_2 7 rfl rfl)
theorem dX1_nightsWhy_56 : decode cX1_nightsWhy 56 = .ok (.aload_n 0, 1) := dk_42 (dk_at dksX1_nightsWhy_2 10 rfl rfl)
theorem dX1_nightsWhy_57 : decode cX1_nightsWhy 57 = .ok (.bipush (-2), 2) := dk_16 254 (dk_at dksX1_nightsWhy_2 11 rfl rfl)
theorem dX1_nightsWhy_59 : decode cX1_nightsWhy 59 = .ok (.putfield 323, 3) := dk_181 1 67 (dk_at dksX1_nightsWhy_2 13 rfl rfl)
theorem dX1_nightsWhy_62 : decode cX1_nightsWhy 62 = .ok (.iconst 1, 1) := dk_4 (dk_at dksX1_nightsWhy_2 16 rfl rfl)
theorem dX1_nightsWhy_63 : decode cX1_nightsWhy 63 = .ok (.istore 5, 2) := dk_54 5 (dk_at dksX1_nightsWhy_2 17 rfl rfl)
theorem dX1_nightsWhy_65 : decode cX1_nightsWhy 65 = .ok (.iload 5, 2) := dk_21 5 (dk_at dksX1_nightsWhy_2 19 rfl rfl)
theorem dX1_nightsWhy_67 : decode cX1_nightsWhy 67 = .ok (.iload_n 3, 1) := dk_29 (dk_at dksX1_nightsWhy_2 21 rfl rfl)
theorem dX1_nightsWhy_68 : decode cX1_nightsWhy 68 = .ok (.if_icmp .gt 76, 3) := dk_163 0 76 (dk_at dksX1_nightsWhy_3 0 rfl rfl)
theorem dX1_nightsWhy_71 : decode cX1_nightsWhy 71 = .ok (.aload_n 0, 1) := dk_42 (dk_at dksX1_nightsWhy_3 3 rfl rfl)
theorem dX1_nightsWhy_72 : decode cX1_nightsWhy 72 = .ok (.getfield 40, 3) := dk_180 0 40 (dk_at dksX1_nightsWhy_3 4 rfl rfl)
theorem dX1_nightsWhy_75 : decode cX1_nightsWhy 75 = .ok (.invokevirtual 326, 3) := dk_182 1 70 (dk_at dksX1_nightsWhy_3 7 rfl rfl)
theorem dX1_nightsWhy_78 : decode cX1_nightsWhy 78 = .ok (.istore 6, 2) := dk_54 6 (dk_at dksX1_nightsWhy_3 10 rfl rfl)
theorem dX1_nightsWhy_80 : decode cX1_nightsWhy 80 = .ok (.aload_n 0, 1) := dk_42 (dk_at dksX1_nightsWhy_3 12 rfl rfl)
theorem dX1_nightsWhy_81 : decode cX1_nightsWhy 81 = .ok (.getfield 70, 3) := dk_180 0 70 (dk_at dksX1_nightsWhy_3 13 rfl rfl)
theorem dX1_nightsWhy_84 : decode cX1_nightsWhy 84 = .ok (.aload_n 0, 1) := dk_42 (dk_at dksX1_nightsWhy_3 16 rfl rfl)
theorem dX1_nightsWhy_85 : decode cX1_nightsWhy 85 = .ok (.getfield 40, 3) := dk_180 0 40 (dk_at dksX1_nightsWhy_3 17 rfl rfl)
theorem dX1_nightsWhy_88 : decode cX1_nightsWhy 88 = .ok (.iload 6, 2) := dk_21 6 (dk_at dksX1_nightsWhy_3 20 rfl rfl)
theorem dX1_nightsWhy_90 : decode cX1_nightsWhy 90 = .ok (.invokevirtual 184, 3) := dk_182 0 184 (dk_at dksX1_nightsWhy_4 0 rfl rfl)
theorem dX1_nightsWhy_93 : decode cX1_nightsWhy 93 = .ok (.pop, 1) := dk_87 (dk_at dksX1_nightsWhy_4 3 rfl rfl)
theorem dX1_nightsWhy_94 : decode cX1_nightsWhy 94 = .ok (.aload_n 0, 1) := dk_42 (dk_at dksX1_nightsWhy_4 4 rfl rfl)
theorem dX1_nightsWhy_95 : decode cX1_nightsWhy 95 = .ok (.getfield 40, 3) := dk_180 0 40 (dk_at dksX1_nightsWhy_4 5 rfl rfl)
theorem dX1_nightsWhy_98 : decode cX1_nightsWhy 98 = .ok (.aload_n 0, 1) := dk_42 (dk_at dksX1_nightsWhy_4 8 rfl rfl)
theorem dX1_nightsWhy_99 : decode cX1_nightsWhy 99 = .ok (.getfield 70, 3) := dk_180 0 70 (dk_at dksX1_nightsWhy_4 9 rfl rfl)
theorem dX1_nightsWhy_102 : decode cX1_nightsWhy 102 = .ok (.invokevirtual 316, 3) := dk_182 1 60 (dk_at dksX1_nightsWhy_4 12 rfl rfl)
theorem dX1_nightsWhy_105 : decode cX1_nightsWhy 105 = .ok (.pop, 1) := dk_87 (dk_at dksX1_nightsWhy_4 15 rfl rfl)
theorem dX1_nightsWhy_106 : decode cX1_nightsWhy 106 = .ok (.aload_n 0, 1) := dk_42 (dk_at dksX1_nightsWhy_4 16 rfl rfl)
theorem dX1_nightsWhy_107 : decode cX1_nightsWhy 107 = .ok (.getfield 323, 3) := dk_180 1 67 (dk_at dksX1_nightsWhy_4 17 rfl rfl)
theorem dX1_nightsWhy_110 : decode cX1_nightsWhy 110 = .ok (.bipush (-2), 2) := dk_16 254 (dk_at dksX1_nightsWhy_4 20 rfl rfl)
theorem dX1_nightsWhy_112 : decode cX1_nightsWhy 112 = .ok (.if_icmp .ne 26, 3) := dk_160 0 26 (dk_at dksX1_nightsWhy_5 0 rfl rfl)
theorem dX1_nightsWhy_115 : decode cX1_nightsWhy 115 = .ok (.aload_n 0, 1) := dk_42 (dk_at dksX1_nightsWhy_5 3 rfl rfl)
theorem dX1_nightsWhy_116 : decode cX1_nightsWhy 116 = .ok (.getfield 40, 3) := dk_180 0 40 (dk_at dksX1_nightsWhy_5 4 rfl rfl)
theorem dX1_nightsWhy_119 : decode cX1_nightsWhy 119 = .ok (.getfield 187, 3) := dk_180 0 187 (dk_at dksX1_nightsWhy_5 7 rfl rfl)
theorem dX1_nightsWhy_122 : decode cX1_nightsWhy 122 = .ok (.aload_n 0, 1) := dk_42 (dk_at dksX1_nightsWhy_5 10 rfl rfl)
theorem dX1_nightsWhy_123 : decode cX1_nightsWhy 123 = .ok (.getfield 33, 3) := dk_180 0 33 (dk_at dksX1_nightsWhy_5 11 rfl rfl)
theorem dX1_nightsWhy_126 : decode cX1_nightsWhy 126 = .ok (.getfield 187, 3) := dk_180 0 187 (dk_at dksX1_nightsWhy_5 14 rfl rfl)
theorem dX1_nightsWhy_129 : decode cX1_nightsWhy 129 = .ok (.if_icmp .le 9, 3) := dk_164 0 9 (dk_at dksX1_nightsWhy_5 17 rfl rfl)
theorem dX1_nightsWhy_132 : decode cX1_nightsWhy 132 = .ok (.aload_n 0, 1) := dk_42 (dk_at dksX1_nightsWhy_5 20 rfl rfl)
theorem dX1_nightsWhy_133 : decode cX1_nightsWhy 133 = .ok (.iload 5, 2) := dk_21 5 (dk_at dksX1_nightsWhy_5 21 rfl rfl)
theorem dX1_nightsWhy_135 : decode cX1_nightsWhy 135 = .ok (.putfield 323, 3) := dk_181 1 67 (dk_at dksX1_nightsWhy_6 0 rfl rfl)
theorem dX1_nightsWhy_138 : decode cX1_nightsWhy 138 = .ok (.iinc 5 1, 3) := dk_132 5 1 (dk_at dksX1_nightsWhy_6 3 rfl rfl)
theorem dX1_nightsWhy_141 : decode cX1_nightsWhy 141 = .ok (.goto (-76), 3) := dk_167 255 180 (dk_at dksX1_nightsWhy_6 6 rfl rfl)
theorem dX1_nightsWhy_144 : decode cX1_nightsWhy 144 = .ok (.iconst 0, 1) := dk_3 (dk_at dksX1_nightsWhy_6 9 rfl rfl)
theorem dX1_nightsWhy_145 : decode cX1_nightsWhy 145 = .ok (.ireturn, 1) := dk_172 (dk_at dksX1_nightsWhy_6 10 rfl rfl)
abbrev cX1_lives : ByteArray := prog_1_method_71_code
def yX1_lives : MethodName := ⟨RX1, "lives", "(II)I"⟩
def dkwX1_lives_1 : List UInt8 := [153, 0, 11, 42, 29, 182, 0, 90, 167, 0, 10, 42, 180, 0, 40, 180, 0, 137, 172]
abbrev dktX1_lives_1 : List UInt8 := dkwX1_lives_1 ++ []
def dkwX1_lives_0 : List UInt8 := [42, 182, 0, 76, 42, 42, 180, 0, 101, 198, 0, 7, 4, 167, 0, 4, 3, 27, 28, 182, 1, 73, 62, 29]
abbrev dktX1_lives_0 : List UInt8 := dkwX1_lives_0 ++ dktX1_lives_1
theorem dksX1_lives_0 : cX1_lives.data.toList.drop 0 = dktX1_lives_0 := by decide +kernel
theorem dksX1_lives_1 : cX1_lives.data.toList.drop 24 = dktX1_lives_1 := dk_seg dksX1_lives_0 24 rfl rfl
theorem dX1_lives_0 : decode cX1_lives 0 = .ok (.aload_n 0, 1) := dk_42 (dk_at dksX1_lives_0 0 rfl rfl)
theorem dX1_lives_1 : decode cX1_lives 1 = .ok (.invokevirtual 76, 3) := dk_182 0 76 (dk_at dksX1_lives_0 1 rfl rfl)
theorem dX1_lives_4 : decode cX1_lives 4 = .ok (.aload_n 0, 1) := dk_42 (dk_at dksX1_lives_0 4 rfl rfl)
theorem dX1_lives_5 : decode cX1_lives 5 = .ok (.aload_n 0, 1) := dk_42 (dk_at dksX1_lives_0 5 rfl rfl)
theorem dX1_lives_6 : decode cX1_lives 6 = .ok (.getfield 101, 3) := dk_180 0 101 (dk_at dksX1_lives_0 6 rfl rfl)
theorem dX1_lives_9 : decode cX1_lives 9 = .ok (.ifnull 7, 3) := dk_198 0 7 (dk_at dksX1_lives_0 9 rfl rfl)
theorem dX1_lives_12 : decode cX1_lives 12 = .ok (.iconst 1, 1) := dk_4 (dk_at dksX1_lives_0 12 rfl rfl)
theorem dX1_lives_13 : decode cX1_lives 13 = .ok (.goto 4, 3) := dk_167 0 4 (dk_at dksX1_lives_0 13 rfl rfl)
theorem dX1_lives_16 : decode cX1_lives 16 = .ok (.iconst 0, 1) := dk_3 (dk_at dksX1_lives_0 16 rfl rfl)
theorem dX1_lives_17 : decode cX1_lives 17 = .ok (.iload_n 1, 1) := dk_27 (dk_at dksX1_lives_0 17 rfl rfl)
theorem dX1_lives_18 : decode cX1_lives 18 = .ok (.iload_n 2, 1) := dk_28 (dk_at dksX1_lives_0 18 rfl rfl)
theorem dX1_lives_19 : decode cX1_lives 19 = .ok (.invokevirtual 329, 3) := dk_182 1 73 (dk_at dksX1_lives_0 19 rfl rfl)
theorem dX1_lives_22 : decode cX1_lives 22 = .ok (.istore_n 3, 1) := dk_62 (dk_at dksX1_lives_0 22 rfl rfl)
theorem dX1_lives_23 : decode cX1_lives 23 = .ok (.iload_n 3, 1) := dk_29 (dk_at dksX1_lives_0 23 rfl rfl)
theorem dX1_lives_24 : decode cX1_lives 24 = .ok (.ifCond .eq 11, 3) := dk_153 0 11 (dk_at dksX1_lives_1 0 rfl rfl)
theorem dX1_lives_27 : decode cX1_lives 27 = .ok (.aload_n 0, 1) := dk_42 (dk_at dksX1_lives_1 3 rfl rfl)
theorem dX1_lives_28 : decode cX1_lives 28 = .ok (.iload_n 3, 1) := dk_29 (dk_at dksX1_lives_1 4 rfl rfl)
theorem dX1_lives_29 : decode cX1_lives 29 = .ok (.invokevirtual 90, 3) := dk_182 0 90 (dk_at dksX1_lives_1 5 rfl rfl)
theorem dX1_lives_32 : decode cX1_lives 32 = .ok (.goto 10, 3) := dk_167 0 10 (dk_at dksX1_lives_1 8 rfl rfl)
theorem dX1_lives_35 : decode cX1_lives 35 = .ok (.aload_n 0, 1) := dk_42 (dk_at dksX1_lives_1 11 rfl rfl)
theorem dX1_lives_36 : decode cX1_lives 36 = .ok (.getfield 40, 3) := dk_180 0 40 (dk_at dksX1_lives_1 12 rfl rfl)
theorem dX1_lives_39 : decode cX1_lives 39 = .ok (.getfield 137, 3) := dk_180 0 137 (dk_at dksX1_lives_1 15 rfl rfl)
theorem dX1_lives_42 : decode cX1_lives 42 = .ok (.ireturn, 1) := dk_172 (dk_at dksX1_lives_1 18 rfl rfl)
abbrev cX1_firstCat : ByteArray := prog_1_method_72_code
def yX1_firstCat : MethodName := ⟨RX1, "firstCat", "(II)I"⟩
def dkwX1_firstCat_1 : List UInt8 := [153, 0, 11, 42, 29, 182, 0, 90, 167, 0, 7, 42, 180, 1, 67, 172]
abbrev dktX1_firstCat_1 : List UInt8 := dkwX1_firstCat_1 ++ []
def dkwX1_firstCat_0 : List UInt8 := [42, 182, 0, 76, 42, 42, 180, 0, 101, 198, 0, 7, 4, 167, 0, 4, 3, 27, 28, 182, 1, 73, 62, 29]
abbrev dktX1_firstCat_0 : List UInt8 := dkwX1_firstCat_0 ++ dktX1_firstCat_1
theorem dksX1_firstCat_0 : cX1_firstCat.data.toList.drop 0 = dktX1_firstCat_0 := by decide +kernel
theorem dksX1_firstCat_1 : cX1_firstCat.data.toList.drop 24 = dktX1_firstCat_1 := dk_seg dksX1_firstCat_0 24 rfl rfl
theorem dX1_firstCat_0 : decode cX1_firstCat 0 = .ok (.aload_n 0, 1) := dk_42 (dk_at dksX1_firstCat_0 0 rfl rfl)
theorem dX1_firstCat_1 : decode cX1_firstCat 1 = .ok (.invokevirtual 76, 3) := dk_182 0 76 (dk_at dksX1_firstCat_0 1 rfl rfl)
theorem dX1_firstCat_4 : decode cX1_firstCat 4 = .ok (.aload_n 0, 1) := dk_42 (dk_at dksX1_firstCat_0 4 rfl rfl)
theorem dX1_firstCat_5 : decode cX1_firstCat 5 = .ok (.aload_n 0, 1) := dk_42 (dk_at dksX1_firstCat_0 5 rfl rfl)
theorem dX1_firstCat_6 : decode cX1_firstCat 6 = .ok (.getfield 101, 3) := dk_180 0 101 (dk_at dksX1_firstCat_0 6 rfl rfl)
theorem dX1_firstCat_9 : decode cX1_firstCat 9 = .ok (.ifnull 7, 3) := dk_198 0 7 (dk_at dksX1_firstCat_0 9 rfl rfl)
theorem dX1_firstCat_12 : decode cX1_firstCat 12 = .ok (.iconst 1, 1) := dk_4 (dk_at dksX1_firstCat_0 12 rfl rfl)
theorem dX1_firstCat_13 : decode cX1_firstCat 13 = .ok (.goto 4, 3) := dk_167 0 4 (dk_at dksX1_firstCat_0 13 rfl rfl)
theorem dX1_firstCat_16 : decode cX1_firstCat 16 = .ok (.iconst 0, 1) := dk_3 (dk_at dksX1_firstCat_0 16 rfl rfl)
theorem dX1_firstCat_17 : decode cX1_firstCat 17 = .ok (.iload_n 1, 1) := dk_27 (dk_at dksX1_firstCat_0 17 rfl rfl)
theorem dX1_firstCat_18 : decode cX1_firstCat 18 = .ok (.iload_n 2, 1) := dk_28 (dk_at dksX1_firstCat_0 18 rfl rfl)
theorem dX1_firstCat_19 : decode cX1_firstCat 19 = .ok (.invokevirtual 329, 3) := dk_182 1 73 (dk_at dksX1_firstCat_0 19 rfl rfl)
theorem dX1_firstCat_22 : decode cX1_firstCat 22 = .ok (.istore_n 3, 1) := dk_62 (dk_at dksX1_firstCat_0 22 rfl rfl)
theorem dX1_firstCat_23 : decode cX1_firstCat 23 = .ok (.iload_n 3, 1) := dk_29 (dk_at dksX1_firstCat_0 23 rfl rfl)
theorem dX1_firstCat_24 : decode cX1_firstCat 24 = .ok (.ifCond .eq 11, 3) := dk_153 0 11 (dk_at dksX1_firstCat_1 0 rfl rfl)
theorem dX1_firstCat_27 : decode cX1_firstCat 27 = .ok (.aload_n 0, 1) := dk_42 (dk_at dksX1_firstCat_1 3 rfl rfl)
theorem dX1_firstCat_28 : decode cX1_firstCat 28 = .ok (.iload_n 3, 1) := dk_29 (dk_at dksX1_firstCat_1 4 rfl rfl)
theorem dX1_firstCat_29 : decode cX1_firstCat 29 = .ok (.invokevirtual 90, 3) := dk_182 0 90 (dk_at dksX1_firstCat_1 5 rfl rfl)
theorem dX1_firstCat_32 : decode cX1_firstCat 32 = .ok (.goto 7, 3) := dk_167 0 7 (dk_at dksX1_firstCat_1 8 rfl rfl)
theorem dX1_firstCat_35 : decode cX1_firstCat 35 = .ok (.aload_n 0, 1) := dk_42 (dk_at dksX1_firstCat_1 11 rfl rfl)
theorem dX1_firstCat_36 : decode cX1_firstCat 36 = .ok (.getfield 323, 3) := dk_180 1 67 (dk_at dksX1_firstCat_1 12 rfl rfl)
theorem dX1_firstCat_39 : decode cX1_firstCat 39 = .ok (.ireturn, 1) := dk_172 (dk_at dksX1_firstCat_1 15 rfl rfl)
abbrev cX1_ask : ByteArray := prog_1_method_75_code
def yX1_ask : MethodName := ⟨RX1, "ask", "(II)I"⟩
def dkwX1_ask_4 : List UInt8 := [28, 182, 1, 83, 62, 42, 182, 1, 86, 87, 29, 172]
abbrev dktX1_ask_4 : List UInt8 := dkwX1_ask_4 ++ []
def dkwX1_ask_3 : List UInt8 := [180, 1, 77, 17, 3, 231, 160, 0, 9, 42, 6, 182, 0, 90, 172, 42, 182, 1, 80, 42, 180, 0, 33, 27]
abbrev dktX1_ask_3 : List UInt8 := dkwX1_ask_3 ++ dktX1_ask_4
def dkwX1_ask_2 : List UInt8 := [180, 0, 33, 27, 28, 182, 0, 140, 154, 0, 10, 42, 16, 6, 182, 0, 90, 172, 42, 180, 0, 33]
abbrev dktX1_ask_2 : List UInt8 := dkwX1_ask_2 ++ dktX1_ask_3
def dkwX1_ask_1 : List UInt8 := [182, 0, 130, 153, 0, 14, 42, 180, 0, 33, 28, 182, 0, 130, 154, 0, 9, 42, 8, 182, 0, 90, 172, 42]
abbrev dktX1_ask_1 : List UInt8 := dkwX1_ask_1 ++ dktX1_ask_2
def dkwX1_ask_0 : List UInt8 := [42, 182, 0, 76, 42, 27, 28, 182, 0, 168, 154, 0, 9, 42, 4, 182, 0, 90, 172, 42, 180, 0, 33, 27]
abbrev dktX1_ask_0 : List UInt8 := dkwX1_ask_0 ++ dktX1_ask_1
theorem dksX1_ask_0 : cX1_ask.data.toList.drop 0 = dktX1_ask_0 := by decide +kernel
theorem dksX1_ask_1 : cX1_ask.data.toList.drop 24 = dktX1_ask_1 := dk_seg dksX1_ask_0 24 rfl rfl
theorem dksX1_ask_2 : cX1_ask.data.toList.drop 48 = dktX1_ask_2 := dk_seg dksX1_ask_1 24 rfl rfl
theorem dksX1_ask_3 : cX1_ask.data.toList.drop 70 = dktX1_ask_3 := dk_seg dksX1_ask_2 22 rfl rfl
theorem dksX1_ask_4 : cX1_ask.data.toList.drop 94 = dktX1_ask_4 := dk_seg dksX1_ask_3 24 rfl rfl
theorem dX1_ask_0 : decode cX1_ask 0 = .ok (.aload_n 0, 1) := dk_42 (dk_at dksX1_ask_0 0 rfl rfl)
theorem dX1_ask_1 : decode cX1_ask 1 = .ok (.invokevirtual 76, 3) := dk_182 0 76 (dk_at dksX1_ask_0 1 rfl rfl)
theorem dX1_ask_4 : decode cX1_ask 4 = .ok (.aload_n 0, 1) := dk_42 (dk_at dksX1_ask_0 4 rfl rfl)
theorem dX1_ask_5 : decode cX1_ask 5 = .ok (.iload_n 1, 1) := dk_27 (dk_at dksX1_ask_0 5 rfl rfl)
theorem dX1_ask_6 : decode cX1_ask 6 = .ok (.iload_n 2, 1) := dk_28 (dk_at dksX1_ask_0 6 rfl rfl)
theorem dX1_ask_7 : decode cX1_ask 7 = .ok (.invokevirtual 168, 3) := dk_182 0 168 (dk_at dksX1_ask_0 7 rfl rfl)
theorem dX1_ask_10 : decode cX1_ask 10 = .ok (.ifCond .ne 9, 3) := dk_154 0 9 (dk_at dksX1_ask_0 10 rfl rfl)
theorem dX1_ask_13 : decode cX1_ask 13 = .ok (.aload_n 0, 1) := dk_42 (dk_at dksX1_ask_0 13 rfl rfl)
theorem dX1_ask_14 : decode cX1_ask 14 = .ok (.iconst 1, 1) := dk_4 (dk_at dksX1_ask_0 14 rfl rfl)
theorem dX1_ask_15 : decode cX1_ask 15 = .ok (.invokevirtual 90, 3) := dk_182 0 90 (dk_at dksX1_ask_0 15 rfl rfl)
theorem dX1_ask_18 : decode cX1_ask 18 = .ok (.ireturn, 1) := dk_172 (dk_at dksX1_ask_0 18 rfl rfl)
theorem dX1_ask_19 : decode cX1_ask 19 = .ok (.aload_n 0, 1) := dk_42 (dk_at dksX1_ask_0 19 rfl rfl)
theorem dX1_ask_20 : decode cX1_ask 20 = .ok (.getfield 33, 3) := dk_180 0 33 (dk_at dksX1_ask_0 20 rfl rfl)
theorem dX1_ask_23 : decode cX1_ask 23 = .ok (.iload_n 1, 1) := dk_27 (dk_at dksX1_ask_0 23 rfl rfl)
theorem dX1_ask_24 : decode cX1_ask 24 = .ok (.invokevirtual 130, 3) := dk_182 0 130 (dk_at dksX1_ask_1 0 rfl rfl)
theorem dX1_ask_27 : decode cX1_ask 27 = .ok (.ifCond .eq 14, 3) := dk_153 0 14 (dk_at dksX1_ask_1 3 rfl rfl)
theorem dX1_ask_30 : decode cX1_ask 30 = .ok (.aload_n 0, 1) := dk_42 (dk_at dksX1_ask_1 6 rfl rfl)
theorem dX1_ask_31 : decode cX1_ask 31 = .ok (.getfield 33, 3) := dk_180 0 33 (dk_at dksX1_ask_1 7 rfl rfl)
theorem dX1_ask_34 : decode cX1_ask 34 = .ok (.iload_n 2, 1) := dk_28 (dk_at dksX1_ask_1 10 rfl rfl)
theorem dX1_ask_35 : decode cX1_ask 35 = .ok (.invokevirtual 130, 3) := dk_182 0 130 (dk_at dksX1_ask_1 11 rfl rfl)
theorem dX1_ask_38 : decode cX1_ask 38 = .ok (.ifCond .ne 9, 3) := dk_154 0 9 (dk_at dksX1_ask_1 14 rfl rfl)
theorem dX1_ask_41 : decode cX1_ask 41 = .ok (.aload_n 0, 1) := dk_42 (dk_at dksX1_ask_1 17 rfl rfl)
theorem dX1_ask_42 : decode cX1_ask 42 = .ok (.iconst 5, 1) := dk_8 (dk_at dksX1_ask_1 18 rfl rfl)
theorem dX1_ask_43 : decode cX1_ask 43 = .ok (.invokevirtual 90, 3) := dk_182 0 90 (dk_at dksX1_ask_1 19 rfl rfl)
theorem dX1_ask_46 : decode cX1_ask 46 = .ok (.ireturn, 1) := dk_172 (dk_at dksX1_ask_1 22 rfl rfl)
theorem dX1_ask_47 : decode cX1_ask 47 = .ok (.aload_n 0, 1) := dk_42 (dk_at dksX1_ask_1 23 rfl rfl)
theorem dX1_ask_48 : decode cX1_ask 48 = .ok (.getfield 33, 3) := dk_180 0 33 (dk_at dksX1_ask_2 0 rfl rfl)
theorem dX1_ask_51 : decode cX1_ask 51 = .ok (.iload_n 1, 1) := dk_27 (dk_at dksX1_ask_2 3 rfl rfl)
theorem dX1_ask_52 : decode cX1_ask 52 = .ok (.iload_n 2, 1) := dk_28 (dk_at dksX1_ask_2 4 rfl rfl)
theorem dX1_ask_53 : decode cX1_ask 53 = .ok (.invokevirtual 140, 3) := dk_182 0 140 (dk_at dksX1_ask_2 5 rfl rfl)
theorem dX1_ask_56 : decode cX1_ask 56 = .ok (.ifCond .ne 10, 3) := dk_154 0 10 (dk_at dksX1_ask_2 8 rfl rfl)
theorem dX1_ask_59 : decode cX1_ask 59 = .ok (.aload_n 0, 1) := dk_42 (dk_at dksX1_ask_2 11 rfl rfl)
theorem dX1_ask_60 : decode cX1_ask 60 = .ok (.bipush 6, 2) := dk_16 6 (dk_at dksX1_ask_2 12 rfl rfl)
theorem dX1_ask_62 : decode cX1_ask 62 = .ok (.invokevirtual 90, 3) := dk_182 0 90 (dk_at dksX1_ask_2 14 rfl rfl)
theorem dX1_ask_65 : decode cX1_ask 65 = .ok (.ireturn, 1) := dk_172 (dk_at dksX1_ask_2 17 rfl rfl)
theorem dX1_ask_66 : decode cX1_ask 66 = .ok (.aload_n 0, 1) := dk_42 (dk_at dksX1_ask_2 18 rfl rfl)
theorem dX1_ask_67 : decode cX1_ask 67 = .ok (.getfield 33, 3) := dk_180 0 33 (dk_at dksX1_ask_2 19 rfl rfl)
theorem dX1_ask_70 : decode cX1_ask 70 = .ok (.getfield 333, 3) := dk_180 1 77 (dk_at dksX1_ask_3 0 rfl rfl)
theorem dX1_ask_73 : decode cX1_ask 73 = .ok (.sipush 999, 3) := dk_17 3 231 (dk_at dksX1_ask_3 3 rfl rfl)
theorem dX1_ask_76 : decode cX1_ask 76 = .ok (.if_icmp .ne 9, 3) := dk_160 0 9 (dk_at dksX1_ask_3 6 rfl rfl)
theorem dX1_ask_79 : decode cX1_ask 79 = .ok (.aload_n 0, 1) := dk_42 (dk_at dksX1_ask_3 9 rfl rfl)
theorem dX1_ask_80 : decode cX1_ask 80 = .ok (.iconst 3, 1) := dk_6 (dk_at dksX1_ask_3 10 rfl rfl)
theorem dX1_ask_81 : decode cX1_ask 81 = .ok (.invokevirtual 90, 3) := dk_182 0 90 (dk_at dksX1_ask_3 11 rfl rfl)
theorem dX1_ask_84 : decode cX1_ask 84 = .ok (.ireturn, 1) := dk_172 (dk_at dksX1_ask_3 14 rfl rfl)
theorem dX1_ask_85 : decode cX1_ask 85 = .ok (.aload_n 0, 1) := dk_42 (dk_at dksX1_ask_3 15 rfl rfl)
theorem dX1_ask_86 : decode cX1_ask 86 = .ok (.invokevirtual 336, 3) := dk_182 1 80 (dk_at dksX1_ask_3 16 rfl rfl)
theorem dX1_ask_89 : decode cX1_ask 89 = .ok (.aload_n 0, 1) := dk_42 (dk_at dksX1_ask_3 19 rfl rfl)
theorem dX1_ask_90 : decode cX1_ask 90 = .ok (.getfield 33, 3) := dk_180 0 33 (dk_at dksX1_ask_3 20 rfl rfl)
theorem dX1_ask_93 : decode cX1_ask 93 = .ok (.iload_n 1, 1) := dk_27 (dk_at dksX1_ask_3 23 rfl rfl)
theorem dX1_ask_94 : decode cX1_ask 94 = .ok (.iload_n 2, 1) := dk_28 (dk_at dksX1_ask_4 0 rfl rfl)
theorem dX1_ask_95 : decode cX1_ask 95 = .ok (.invokevirtual 339, 3) := dk_182 1 83 (dk_at dksX1_ask_4 1 rfl rfl)
theorem dX1_ask_98 : decode cX1_ask 98 = .ok (.istore_n 3, 1) := dk_62 (dk_at dksX1_ask_4 4 rfl rfl)
theorem dX1_ask_99 : decode cX1_ask 99 = .ok (.aload_n 0, 1) := dk_42 (dk_at dksX1_ask_4 5 rfl rfl)
theorem dX1_ask_100 : decode cX1_ask 100 = .ok (.invokevirtual 342, 3) := dk_182 1 86 (dk_at dksX1_ask_4 6 rfl rfl)
theorem dX1_ask_103 : decode cX1_ask 103 = .ok (.pop, 1) := dk_87 (dk_at dksX1_ask_4 9 rfl rfl)
theorem dX1_ask_104 : decode cX1_ask 104 = .ok (.iload_n 3, 1) := dk_29 (dk_at dksX1_ask_4 10 rfl rfl)
theorem dX1_ask_105 : decode cX1_ask 105 = .ok (.ireturn, 1) := dk_172 (dk_at dksX1_ask_4 11 rfl rfl)
abbrev cX1_note : ByteArray := prog_1_method_73_code
def yX1_note : MethodName := ⟨RX1, "note", "()V"⟩
def dkwX1_note_0 : List UInt8 := [42, 180, 0, 37, 42, 180, 0, 33, 182, 1, 60, 87, 177]
abbrev dktX1_note_0 : List UInt8 := dkwX1_note_0 ++ []
theorem dksX1_note_0 : cX1_note.data.toList.drop 0 = dktX1_note_0 := by decide +kernel
theorem dX1_note_0 : decode cX1_note 0 = .ok (.aload_n 0, 1) := dk_42 (dk_at dksX1_note_0 0 rfl rfl)
theorem dX1_note_1 : decode cX1_note 1 = .ok (.getfield 37, 3) := dk_180 0 37 (dk_at dksX1_note_0 1 rfl rfl)
theorem dX1_note_4 : decode cX1_note 4 = .ok (.aload_n 0, 1) := dk_42 (dk_at dksX1_note_0 4 rfl rfl)
theorem dX1_note_5 : decode cX1_note 5 = .ok (.getfield 33, 3) := dk_180 0 33 (dk_at dksX1_note_0 5 rfl rfl)
theorem dX1_note_8 : decode cX1_note 8 = .ok (.invokevirtual 316, 3) := dk_182 1 60 (dk_at dksX1_note_0 8 rfl rfl)
theorem dX1_note_11 : decode cX1_note 11 = .ok (.pop, 1) := dk_87 (dk_at dksX1_note_0 11 rfl rfl)
theorem dX1_note_12 : decode cX1_note 12 = .ok (.return_, 1) := dk_177 (dk_at dksX1_note_0 12 rfl rfl)
abbrev cX1_done : ByteArray := prog_1_method_74_code
def yX1_done : MethodName := ⟨RX1, "done", "()Z"⟩
def dkwX1_done_3 : List UInt8 := [180, 0, 37, 182, 1, 60, 87, 42, 89, 180, 0, 115, 4, 96, 181, 0, 115, 4, 172]
abbrev dktX1_done_3 : List UInt8 := dkwX1_done_3 ++ []
def dkwX1_done_2 : List UInt8 := [16, 15, 43, 83, 42, 89, 180, 0, 115, 4, 100, 181, 0, 115, 42, 180, 0, 59, 42, 180, 0, 115, 50, 42]
abbrev dktX1_done_2 : List UInt8 := dkwX1_done_2 ++ dktX1_done_3
def dkwX1_done_1 : List UInt8 := [42, 180, 0, 59, 28, 4, 100, 42, 180, 0, 59, 28, 50, 83, 132, 2, 1, 167, 255, 233, 42, 180, 0, 59]
abbrev dktX1_done_1 : List UInt8 := dkwX1_done_1 ++ dktX1_done_2
def dkwX1_done_0 : List UInt8 := [42, 180, 0, 115, 16, 16, 160, 0, 56, 42, 180, 0, 59, 3, 50, 76, 4, 61, 28, 16, 16, 162, 0, 23]
abbrev dktX1_done_0 : List UInt8 := dkwX1_done_0 ++ dktX1_done_1
theorem dksX1_done_0 : cX1_done.data.toList.drop 0 = dktX1_done_0 := by decide +kernel
theorem dksX1_done_1 : cX1_done.data.toList.drop 24 = dktX1_done_1 := dk_seg dksX1_done_0 24 rfl rfl
theorem dksX1_done_2 : cX1_done.data.toList.drop 48 = dktX1_done_2 := dk_seg dksX1_done_1 24 rfl rfl
theorem dksX1_done_3 : cX1_done.data.toList.drop 72 = dktX1_done_3 := dk_seg dksX1_done_2 24 rfl rfl
theorem dX1_done_0 : decode cX1_done 0 = .ok (.aload_n 0, 1) := dk_42 (dk_at dksX1_done_0 0 rfl rfl)
theorem dX1_done_1 : decode cX1_done 1 = .ok (.getfield 115, 3) := dk_180 0 115 (dk_at dksX1_done_0 1 rfl rfl)
theorem dX1_done_4 : decode cX1_done 4 = .ok (.bipush 16, 2) := dk_16 16 (dk_at dksX1_done_0 4 rfl rfl)
theorem dX1_done_6 : decode cX1_done 6 = .ok (.if_icmp .ne 56, 3) := dk_160 0 56 (dk_at dksX1_done_0 6 rfl rfl)
theorem dX1_done_9 : decode cX1_done 9 = .ok (.aload_n 0, 1) := dk_42 (dk_at dksX1_done_0 9 rfl rfl)
theorem dX1_done_10 : decode cX1_done 10 = .ok (.getfield 59, 3) := dk_180 0 59 (dk_at dksX1_done_0 10 rfl rfl)
theorem dX1_done_13 : decode cX1_done 13 = .ok (.iconst 0, 1) := dk_3 (dk_at dksX1_done_0 13 rfl rfl)
theorem dX1_done_14 : decode cX1_done 14 = .ok (.aaload, 1) := dk_50 (dk_at dksX1_done_0 14 rfl rfl)
theorem dX1_done_15 : decode cX1_done 15 = .ok (.astore_n 1, 1) := dk_76 (dk_at dksX1_done_0 15 rfl rfl)
theorem dX1_done_16 : decode cX1_done 16 = .ok (.iconst 1, 1) := dk_4 (dk_at dksX1_done_0 16 rfl rfl)
theorem dX1_done_17 : decode cX1_done 17 = .ok (.istore_n 2, 1) := dk_61 (dk_at dksX1_done_0 17 rfl rfl)
theorem dX1_done_18 : decode cX1_done 18 = .ok (.iload_n 2, 1) := dk_28 (dk_at dksX1_done_0 18 rfl rfl)
theorem dX1_done_19 : decode cX1_done 19 = .ok (.bipush 16, 2) := dk_16 16 (dk_at dksX1_done_0 19 rfl rfl)
theorem dX1_done_21 : decode cX1_done 21 = .ok (.if_icmp .ge 23, 3) := dk_162 0 23 (dk_at dksX1_done_0 21 rfl rfl)
theorem dX1_done_24 : decode cX1_done 24 = .ok (.aload_n 0, 1) := dk_42 (dk_at dksX1_done_1 0 rfl rfl)
theorem dX1_done_25 : decode cX1_done 25 = .ok (.getfield 59, 3) := dk_180 0 59 (dk_at dksX1_done_1 1 rfl rfl)
theorem dX1_done_28 : decode cX1_done 28 = .ok (.iload_n 2, 1) := dk_28 (dk_at dksX1_done_1 4 rfl rfl)
theorem dX1_done_29 : decode cX1_done 29 = .ok (.iconst 1, 1) := dk_4 (dk_at dksX1_done_1 5 rfl rfl)
theorem dX1_done_30 : decode cX1_done 30 = .ok (.isub, 1) := dk_100 (dk_at dksX1_done_1 6 rfl rfl)
theorem dX1_done_31 : decode cX1_done 31 = .ok (.aload_n 0, 1) := dk_42 (dk_at dksX1_done_1 7 rfl rfl)
theorem dX1_done_32 : decode cX1_done 32 = .ok (.getfield 59, 3) := dk_180 0 59 (dk_at dksX1_done_1 8 rfl rfl)
theorem dX1_done_35 : decode cX1_done 35 = .ok (.iload_n 2, 1) := dk_28 (dk_at dksX1_done_1 11 rfl rfl)
theorem dX1_done_36 : decode cX1_done 36 = .ok (.aaload, 1) := dk_50 (dk_at dksX1_done_1 12 rfl rfl)
theorem dX1_done_37 : decode cX1_done 37 = .ok (.aastore, 1) := dk_83 (dk_at dksX1_done_1 13 rfl rfl)
theorem dX1_done_38 : decode cX1_done 38 = .ok (.iinc 2 1, 3) := dk_132 2 1 (dk_at dksX1_done_1 14 rfl rfl)
theorem dX1_done_41 : decode cX1_done 41 = .ok (.goto (-23), 3) := dk_167 255 233 (dk_at dksX1_done_1 17 rfl rfl)
theorem dX1_done_44 : decode cX1_done 44 = .ok (.aload_n 0, 1) := dk_42 (dk_at dksX1_done_1 20 rfl rfl)
theorem dX1_done_45 : decode cX1_done 45 = .ok (.getfield 59, 3) := dk_180 0 59 (dk_at dksX1_done_1 21 rfl rfl)
theorem dX1_done_48 : decode cX1_done 48 = .ok (.bipush 15, 2) := dk_16 15 (dk_at dksX1_done_2 0 rfl rfl)
theorem dX1_done_50 : decode cX1_done 50 = .ok (.aload_n 1, 1) := dk_43 (dk_at dksX1_done_2 2 rfl rfl)
theorem dX1_done_51 : decode cX1_done 51 = .ok (.aastore, 1) := dk_83 (dk_at dksX1_done_2 3 rfl rfl)
theorem dX1_done_52 : decode cX1_done 52 = .ok (.aload_n 0, 1) := dk_42 (dk_at dksX1_done_2 4 rfl rfl)
theorem dX1_done_53 : decode cX1_done 53 = .ok (.dup, 1) := dk_89 (dk_at dksX1_done_2 5 rfl rfl)
theorem dX1_done_54 : decode cX1_done 54 = .ok (.getfield 115, 3) := dk_180 0 115 (dk_at dksX1_done_2 6 rfl rfl)
theorem dX1_done_57 : decode cX1_done 57 = .ok (.iconst 1, 1) := dk_4 (dk_at dksX1_done_2 9 rfl rfl)
theorem dX1_done_58 : decode cX1_done 58 = .ok (.isub, 1) := dk_100 (dk_at dksX1_done_2 10 rfl rfl)
theorem dX1_done_59 : decode cX1_done 59 = .ok (.putfield 115, 3) := dk_181 0 115 (dk_at dksX1_done_2 11 rfl rfl)
theorem dX1_done_62 : decode cX1_done 62 = .ok (.aload_n 0, 1) := dk_42 (dk_at dksX1_done_2 14 rfl rfl)
theorem dX1_done_63 : decode cX1_done 63 = .ok (.getfield 59, 3) := dk_180 0 59 (dk_at dksX1_done_2 15 rfl rfl)
theorem dX1_done_66 : decode cX1_done 66 = .ok (.aload_n 0, 1) := dk_42 (dk_at dksX1_done_2 18 rfl rfl)
theorem dX1_done_67 : decode cX1_done 67 = .ok (.getfield 115, 3) := dk_180 0 115 (dk_at dksX1_done_2 19 rfl rfl)
theorem dX1_done_70 : decode cX1_done 70 = .ok (.aaload, 1) := dk_50 (dk_at dksX1_done_2 22 rfl rfl)
theorem dX1_done_71 : decode cX1_done 71 = .ok (.aload_n 0, 1) := dk_42 (dk_at dksX1_done_2 23 rfl rfl)
theorem dX1_done_72 : decode cX1_done 72 = .ok (.getfield 37, 3) := dk_180 0 37 (dk_at dksX1_done_3 0 rfl rfl)
theorem dX1_done_75 : decode cX1_done 75 = .ok (.invokevirtual 316, 3) := dk_182 1 60 (dk_at dksX1_done_3 3 rfl rfl)
theorem dX1_done_78 : decode cX1_done 78 = .ok (.pop, 1) := dk_87 (dk_at dksX1_done_3 6 rfl rfl)
theorem dX1_done_79 : decode cX1_done 79 = .ok (.aload_n 0, 1) := dk_42 (dk_at dksX1_done_3 7 rfl rfl)
theorem dX1_done_80 : decode cX1_done 80 = .ok (.dup, 1) := dk_89 (dk_at dksX1_done_3 8 rfl rfl)
theorem dX1_done_81 : decode cX1_done 81 = .ok (.getfield 115, 3) := dk_180 0 115 (dk_at dksX1_done_3 9 rfl rfl)
theorem dX1_done_84 : decode cX1_done 84 = .ok (.iconst 1, 1) := dk_4 (dk_at dksX1_done_3 12 rfl rfl)
theorem dX1_done_85 : decode cX1_done 85 = .ok (.iadd, 1) := dk_96 (dk_at dksX1_done_3 13 rfl rfl)
theorem dX1_done_86 : decode cX1_done 86 = .ok (.putfield 115, 3) := dk_181 0 115 (dk_at dksX1_done_3 14 rfl rfl)
theorem dX1_done_89 : decode cX1_done 89 = .ok (.iconst 1, 1) := dk_4 (dk_at dksX1_done_3 17 rfl rfl)
theorem dX1_done_90 : decode cX1_done 90 = .ok (.ireturn, 1) := dk_172 (dk_at dksX1_done_3 18 rfl rfl)
abbrev cX1_die : ByteArray := prog_1_method_76_code
def yX1_die : MethodName := ⟨RX1, "die", "(I)I"⟩
def dkwX1_die_2 : List UInt8 := [42, 182, 1, 86, 87, 29, 172]
abbrev dktX1_die_2 : List UInt8 := dkwX1_die_2 ++ []
def dkwX1_die_1 : List UInt8 := [42, 180, 0, 33, 27, 182, 0, 178, 62, 42, 180, 0, 33, 42, 180, 0, 37, 4, 27, 120, 182, 0, 184, 87]
abbrev dktX1_die_1 : List UInt8 := dkwX1_die_1 ++ dktX1_die_2
def dkwX1_die_0 : List UInt8 := [42, 182, 0, 76, 42, 27, 182, 0, 175, 61, 28, 153, 0, 9, 42, 28, 182, 0, 90, 172, 42, 182, 1, 80]
abbrev dktX1_die_0 : List UInt8 := dkwX1_die_0 ++ dktX1_die_1
theorem dksX1_die_0 : cX1_die.data.toList.drop 0 = dktX1_die_0 := by decide +kernel
theorem dksX1_die_1 : cX1_die.data.toList.drop 24 = dktX1_die_1 := dk_seg dksX1_die_0 24 rfl rfl
theorem dksX1_die_2 : cX1_die.data.toList.drop 48 = dktX1_die_2 := dk_seg dksX1_die_1 24 rfl rfl
theorem dX1_die_0 : decode cX1_die 0 = .ok (.aload_n 0, 1) := dk_42 (dk_at dksX1_die_0 0 rfl rfl)
theorem dX1_die_1 : decode cX1_die 1 = .ok (.invokevirtual 76, 3) := dk_182 0 76 (dk_at dksX1_die_0 1 rfl rfl)
theorem dX1_die_4 : decode cX1_die 4 = .ok (.aload_n 0, 1) := dk_42 (dk_at dksX1_die_0 4 rfl rfl)
theorem dX1_die_5 : decode cX1_die 5 = .ok (.iload_n 1, 1) := dk_27 (dk_at dksX1_die_0 5 rfl rfl)
theorem dX1_die_6 : decode cX1_die 6 = .ok (.invokevirtual 175, 3) := dk_182 0 175 (dk_at dksX1_die_0 6 rfl rfl)
theorem dX1_die_9 : decode cX1_die 9 = .ok (.istore_n 2, 1) := dk_61 (dk_at dksX1_die_0 9 rfl rfl)
theorem dX1_die_10 : decode cX1_die 10 = .ok (.iload_n 2, 1) := dk_28 (dk_at dksX1_die_0 10 rfl rfl)
theorem dX1_die_11 : decode cX1_die 11 = .ok (.ifCond .eq 9, 3) := dk_153 0 9 (dk_at dksX1_die_0 11 rfl rfl)
theorem dX1_die_14 : decode cX1_die 14 = .ok (.aload_n 0, 1) := dk_42 (dk_at dksX1_die_0 14 rfl rfl)
theorem dX1_die_15 : decode cX1_die 15 = .ok (.iload_n 2, 1) := dk_28 (dk_at dksX1_die_0 15 rfl rfl)
theorem dX1_die_16 : decode cX1_die 16 = .ok (.invokevirtual 90, 3) := dk_182 0 90 (dk_at dksX1_die_0 16 rfl rfl)
theorem dX1_die_19 : decode cX1_die 19 = .ok (.ireturn, 1) := dk_172 (dk_at dksX1_die_0 19 rfl rfl)
theorem dX1_die_20 : decode cX1_die 20 = .ok (.aload_n 0, 1) := dk_42 (dk_at dksX1_die_0 20 rfl rfl)
theorem dX1_die_21 : decode cX1_die 21 = .ok (.invokevirtual 336, 3) := dk_182 1 80 (dk_at dksX1_die_0 21 rfl rfl)
theorem dX1_die_24 : decode cX1_die 24 = .ok (.aload_n 0, 1) := dk_42 (dk_at dksX1_die_1 0 rfl rfl)
theorem dX1_die_25 : decode cX1_die 25 = .ok (.getfield 33, 3) := dk_180 0 33 (dk_at dksX1_die_1 1 rfl rfl)
theorem dX1_die_28 : decode cX1_die 28 = .ok (.iload_n 1, 1) := dk_27 (dk_at dksX1_die_1 4 rfl rfl)
theorem dX1_die_29 : decode cX1_die 29 = .ok (.invokevirtual 178, 3) := dk_182 0 178 (dk_at dksX1_die_1 5 rfl rfl)
theorem dX1_die_32 : decode cX1_die 32 = .ok (.istore_n 3, 1) := dk_62 (dk_at dksX1_die_1 8 rfl rfl)
theorem dX1_die_33 : decode cX1_die 33 = .ok (.aload_n 0, 1) := dk_42 (dk_at dksX1_die_1 9 rfl rfl)
theorem dX1_die_34 : decode cX1_die 34 = .ok (.getfield 33, 3) := dk_180 0 33 (dk_at dksX1_die_1 10 rfl rfl)
theorem dX1_die_37 : decode cX1_die 37 = .ok (.aload_n 0, 1) := dk_42 (dk_at dksX1_die_1 13 rfl rfl)
theorem dX1_die_38 : decode cX1_die 38 = .ok (.getfield 37, 3) := dk_180 0 37 (dk_at dksX1_die_1 14 rfl rfl)
theorem dX1_die_41 : decode cX1_die 41 = .ok (.iconst 1, 1) := dk_4 (dk_at dksX1_die_1 17 rfl rfl)
theorem dX1_die_42 : decode cX1_die 42 = .ok (.iload_n 1, 1) := dk_27 (dk_at dksX1_die_1 18 rfl rfl)
theorem dX1_die_43 : decode cX1_die 43 = .ok (.ishl, 1) := dk_120 (dk_at dksX1_die_1 19 rfl rfl)
theorem dX1_die_44 : decode cX1_die 44 = .ok (.invokevirtual 184, 3) := dk_182 0 184 (dk_at dksX1_die_1 20 rfl rfl)
theorem dX1_die_47 : decode cX1_die 47 = .ok (.pop, 1) := dk_87 (dk_at dksX1_die_1 23 rfl rfl)
theorem dX1_die_48 : decode cX1_die 48 = .ok (.aload_n 0, 1) := dk_42 (dk_at dksX1_die_2 0 rfl rfl)
theorem dX1_die_49 : decode cX1_die 49 = .ok (.invokevirtual 342, 3) := dk_182 1 86 (dk_at dksX1_die_2 1 rfl rfl)
theorem dX1_die_52 : decode cX1_die 52 = .ok (.pop, 1) := dk_87 (dk_at dksX1_die_2 4 rfl rfl)
theorem dX1_die_53 : decode cX1_die 53 = .ok (.iload_n 3, 1) := dk_29 (dk_at dksX1_die_2 5 rfl rfl)
theorem dX1_die_54 : decode cX1_die 54 = .ok (.ireturn, 1) := dk_172 (dk_at dksX1_die_2 6 rfl rfl)
abbrev cX1_night : ByteArray := prog_1_method_77_code
def yX1_night : MethodName := ⟨RX1, "night", "()I"⟩
def dkwX1_night_3 : List UInt8 := [87, 42, 180, 0, 33, 89, 180, 1, 90, 4, 96, 181, 1, 90, 42, 182, 1, 86, 87, 27, 172]
abbrev dktX1_night_3 : List UInt8 := dkwX1_night_3 ++ []
def dkwX1_night_2 : List UInt8 := [42, 180, 0, 70, 42, 180, 0, 33, 182, 1, 60, 87, 42, 180, 0, 33, 42, 180, 0, 70, 27, 182, 0, 184]
abbrev dktX1_night_2 : List UInt8 := dkwX1_night_2 ++ dktX1_night_3
def dkwX1_night_1 : List UInt8 := [17, 3, 231, 160, 0, 9, 42, 6, 182, 0, 90, 172, 42, 182, 1, 80, 42, 180, 0, 33, 182, 1, 70, 60]
abbrev dktX1_night_1 : List UInt8 := dkwX1_night_1 ++ dktX1_night_2
def dkwX1_night_0 : List UInt8 := [42, 182, 0, 76, 42, 180, 0, 101, 199, 0, 9, 42, 4, 182, 0, 90, 172, 42, 180, 0, 33, 180, 1, 90]
abbrev dktX1_night_0 : List UInt8 := dkwX1_night_0 ++ dktX1_night_1
theorem dksX1_night_0 : cX1_night.data.toList.drop 0 = dktX1_night_0 := by decide +kernel
theorem dksX1_night_1 : cX1_night.data.toList.drop 24 = dktX1_night_1 := dk_seg dksX1_night_0 24 rfl rfl
theorem dksX1_night_2 : cX1_night.data.toList.drop 48 = dktX1_night_2 := dk_seg dksX1_night_1 24 rfl rfl
theorem dksX1_night_3 : cX1_night.data.toList.drop 72 = dktX1_night_3 := dk_seg dksX1_night_2 24 rfl rfl
theorem dX1_night_0 : decode cX1_night 0 = .ok (.aload_n 0, 1) := dk_42 (dk_at dksX1_night_0 0 rfl rfl)
theorem dX1_night_1 : decode cX1_night 1 = .ok (.invokevirtual 76, 3) := dk_182 0 76 (dk_at dksX1_night_0 1 rfl rfl)
theorem dX1_night_4 : decode cX1_night 4 = .ok (.aload_n 0, 1) := dk_42 (dk_at dksX1_night_0 4 rfl rfl)
theorem dX1_night_5 : decode cX1_night 5 = .ok (.getfield 101, 3) := dk_180 0 101 (dk_at dksX1_night_0 5 rfl rfl)
theorem dX1_night_8 : decode cX1_night 8 = .ok (.ifnonnull 9, 3) := dk_199 0 9 (dk_at dksX1_night_0 8 rfl rfl)
theorem dX1_night_11 : decode cX1_night 11 = .ok (.aload_n 0, 1) := dk_42 (dk_at dksX1_night_0 11 rfl rfl)
theorem dX1_night_12 : decode cX1_night 12 = .ok (.iconst 1, 1) := dk_4 (dk_at dksX1_night_0 12 rfl rfl)
theorem dX1_night_13 : decode cX1_night 13 = .ok (.invokevirtual 90, 3) := dk_182 0 90 (dk_at dksX1_night_0 13 rfl rfl)
theorem dX1_night_16 : decode cX1_night 16 = .ok (.ireturn, 1) := dk_172 (dk_at dksX1_night_0 16 rfl rfl)
theorem dX1_night_17 : decode cX1_night 17 = .ok (.aload_n 0, 1) := dk_42 (dk_at dksX1_night_0 17 rfl rfl)
theorem dX1_night_18 : decode cX1_night 18 = .ok (.getfield 33, 3) := dk_180 0 33 (dk_at dksX1_night_0 18 rfl rfl)
theorem dX1_night_21 : decode cX1_night 21 = .ok (.getfield 346, 3) := dk_180 1 90 (dk_at dksX1_night_0 21 rfl rfl)
theorem dX1_night_24 : decode cX1_night 24 = .ok (.sipush 999, 3) := dk_17 3 231 (dk_at dksX1_night_1 0 rfl rfl)
theorem dX1_night_27 : decode cX1_night 27 = .ok (.if_icmp .ne 9, 3) := dk_160 0 9 (dk_at dksX1_night_1 3 rfl rfl)
theorem dX1_night_30 : decode cX1_night 30 = .ok (.aload_n 0, 1) := dk_42 (dk_at dksX1_night_1 6 rfl rfl)
theorem dX1_night_31 : decode cX1_night 31 = .ok (.iconst 3, 1) := dk_6 (dk_at dksX1_night_1 7 rfl rfl)
theorem dX1_night_32 : decode cX1_night 32 = .ok (.invokevirtual 90, 3) := dk_182 0 90 (dk_at dksX1_night_1 8 rfl rfl)
theorem dX1_night_35 : decode cX1_night 35 = .ok (.ireturn, 1) := dk_172 (dk_at dksX1_night_1 11 rfl rfl)
theorem dX1_night_36 : decode cX1_night 36 = .ok (.aload_n 0, 1) := dk_42 (dk_at dksX1_night_1 12 rfl rfl)
theorem dX1_night_37 : decode cX1_night 37 = .ok (.invokevirtual 336, 3) := dk_182 1 80 (dk_at dksX1_night_1 13 rfl rfl)
theorem dX1_night_40 : decode cX1_night 40 = .ok (.aload_n 0, 1) := dk_42 (dk_at dksX1_night_1 16 rfl rfl)
theorem dX1_night_41 : decode cX1_night 41 = .ok (.getfield 33, 3) := dk_180 0 33 (dk_at dksX1_night_1 17 rfl rfl)
theorem dX1_night_44 : decode cX1_night 44 = .ok (.invokevirtual 326, 3) := dk_182 1 70 (dk_at dksX1_night_1 20 rfl rfl)
theorem dX1_night_47 : decode cX1_night 47 = .ok (.istore_n 1, 1) := dk_60 (dk_at dksX1_night_1 23 rfl rfl)
theorem dX1_night_48 : decode cX1_night 48 = .ok (.aload_n 0, 1) := dk_42 (dk_at dksX1_night_2 0 rfl rfl)
theorem dX1_night_49 : decode cX1_night 49 = .ok (.getfield 70, 3) := dk_180 0 70 (dk_at dksX1_night_2 1 rfl rfl)
theorem dX1_night_52 : decode cX1_night 52 = .ok (.aload_n 0, 1) := dk_42 (dk_at dksX1_night_2 4 rfl rfl)
theorem dX1_night_53 : decode cX1_night 53 = .ok (.getfield 33, 3) := dk_180 0 33 (dk_at dksX1_night_2 5 rfl rfl)
theorem dX1_night_56 : decode cX1_night 56 = .ok (.invokevirtual 316, 3) := dk_182 1 60 (dk_at dksX1_night_2 8 rfl rfl)
theorem dX1_night_59 : decode cX1_night 59 = .ok (.pop, 1) := dk_87 (dk_at dksX1_night_2 11 rfl rfl)
theorem dX1_night_60 : decode cX1_night 60 = .ok (.aload_n 0, 1) := dk_42 (dk_at dksX1_night_2 12 rfl rfl)
theorem dX1_night_61 : decode cX1_night 61 = .ok (.getfield 33, 3) := dk_180 0 33 (dk_at dksX1_night_2 13 rfl rfl)
theorem dX1_night_64 : decode cX1_night 64 = .ok (.aload_n 0, 1) := dk_42 (dk_at dksX1_night_2 16 rfl rfl)
theorem dX1_night_65 : decode cX1_night 65 = .ok (.getfield 70, 3) := dk_180 0 70 (dk_at dksX1_night_2 17 rfl rfl)
theorem dX1_night_68 : decode cX1_night 68 = .ok (.iload_n 1, 1) := dk_27 (dk_at dksX1_night_2 20 rfl rfl)
theorem dX1_night_69 : decode cX1_night 69 = .ok (.invokevirtual 184, 3) := dk_182 0 184 (dk_at dksX1_night_2 21 rfl rfl)
theorem dX1_night_72 : decode cX1_night 72 = .ok (.pop, 1) := dk_87 (dk_at dksX1_night_3 0 rfl rfl)
theorem dX1_night_73 : decode cX1_night 73 = .ok (.aload_n 0, 1) := dk_42 (dk_at dksX1_night_3 1 rfl rfl)
theorem dX1_night_74 : decode cX1_night 74 = .ok (.getfield 33, 3) := dk_180 0 33 (dk_at dksX1_night_3 2 rfl rfl)
theorem dX1_night_77 : decode cX1_night 77 = .ok (.dup, 1) := dk_89 (dk_at dksX1_night_3 5 rfl rfl)
theorem dX1_night_78 : decode cX1_night 78 = .ok (.getfield 346, 3) := dk_180 1 90 (dk_at dksX1_night_3 6 rfl rfl)
theorem dX1_night_81 : decode cX1_night 81 = .ok (.iconst 1, 1) := dk_4 (dk_at dksX1_night_3 9 rfl rfl)
theorem dX1_night_82 : decode cX1_night 82 = .ok (.iadd, 1) := dk_96 (dk_at dksX1_night_3 10 rfl rfl)
theorem dX1_night_83 : decode cX1_night 83 = .ok (.putfield 346, 3) := dk_181 1 90 (dk_at dksX1_night_3 11 rfl rfl)
theorem dX1_night_86 : decode cX1_night 86 = .ok (.aload_n 0, 1) := dk_42 (dk_at dksX1_night_3 14 rfl rfl)
theorem dX1_night_87 : decode cX1_night 87 = .ok (.invokevirtual 342, 3) := dk_182 1 86 (dk_at dksX1_night_3 15 rfl rfl)
theorem dX1_night_90 : decode cX1_night 90 = .ok (.pop, 1) := dk_87 (dk_at dksX1_night_3 18 rfl rfl)
theorem dX1_night_91 : decode cX1_night 91 = .ok (.iload_n 1, 1) := dk_27 (dk_at dksX1_night_3 19 rfl rfl)
theorem dX1_night_92 : decode cX1_night 92 = .ok (.ireturn, 1) := dk_172 (dk_at dksX1_night_3 20 rfl rfl)
abbrev cX1_seed : ByteArray := prog_1_method_78_code
def yX1_seed : MethodName := ⟨RX1, "seed", "(I)Z"⟩
def dkwX1_seed_1 : List UInt8 := [182, 0, 195, 182, 1, 93, 154, 0, 5, 3, 172, 42, 180, 0, 33, 27, 181, 1, 64, 4, 172]
abbrev dktX1_seed_1 : List UInt8 := dkwX1_seed_1 ++ []
def dkwX1_seed_0 : List UInt8 := [42, 42, 42, 180, 0, 101, 198, 0, 7, 4, 167, 0, 4, 3, 27, 3, 19, 1, 59, 184, 0, 86]
abbrev dktX1_seed_0 : List UInt8 := dkwX1_seed_0 ++ dktX1_seed_1
theorem dksX1_seed_0 : cX1_seed.data.toList.drop 0 = dktX1_seed_0 := by decide +kernel
theorem dksX1_seed_1 : cX1_seed.data.toList.drop 22 = dktX1_seed_1 := dk_seg dksX1_seed_0 22 rfl rfl
theorem dX1_seed_0 : decode cX1_seed 0 = .ok (.aload_n 0, 1) := dk_42 (dk_at dksX1_seed_0 0 rfl rfl)
theorem dX1_seed_1 : decode cX1_seed 1 = .ok (.aload_n 0, 1) := dk_42 (dk_at dksX1_seed_0 1 rfl rfl)
theorem dX1_seed_2 : decode cX1_seed 2 = .ok (.aload_n 0, 1) := dk_42 (dk_at dksX1_seed_0 2 rfl rfl)
theorem dX1_seed_3 : decode cX1_seed 3 = .ok (.getfield 101, 3) := dk_180 0 101 (dk_at dksX1_seed_0 3 rfl rfl)
theorem dX1_seed_6 : decode cX1_seed 6 = .ok (.ifnull 7, 3) := dk_198 0 7 (dk_at dksX1_seed_0 6 rfl rfl)
theorem dX1_seed_9 : decode cX1_seed 9 = .ok (.iconst 1, 1) := dk_4 (dk_at dksX1_seed_0 9 rfl rfl)
theorem dX1_seed_10 : decode cX1_seed 10 = .ok (.goto 4, 3) := dk_167 0 4 (dk_at dksX1_seed_0 10 rfl rfl)
theorem dX1_seed_13 : decode cX1_seed 13 = .ok (.iconst 0, 1) := dk_3 (dk_at dksX1_seed_0 13 rfl rfl)
theorem dX1_seed_14 : decode cX1_seed 14 = .ok (.iload_n 1, 1) := dk_27 (dk_at dksX1_seed_0 14 rfl rfl)
theorem dX1_seed_15 : decode cX1_seed 15 = .ok (.iconst 0, 1) := dk_3 (dk_at dksX1_seed_0 15 rfl rfl)
theorem dX1_seed_16 : decode cX1_seed 16 = .ok (.ldc_w 315, 3) := dk_19 1 59 (dk_at dksX1_seed_0 16 rfl rfl)
theorem dX1_seed_19 : decode cX1_seed 19 = .ok (.invokestatic 86, 3) := dk_184 0 86 (dk_at dksX1_seed_0 19 rfl rfl)
theorem dX1_seed_22 : decode cX1_seed 22 = .ok (.invokevirtual 195, 3) := dk_182 0 195 (dk_at dksX1_seed_1 0 rfl rfl)
theorem dX1_seed_25 : decode cX1_seed 25 = .ok (.invokevirtual 349, 3) := dk_182 1 93 (dk_at dksX1_seed_1 3 rfl rfl)
theorem dX1_seed_28 : decode cX1_seed 28 = .ok (.ifCond .ne 5, 3) := dk_154 0 5 (dk_at dksX1_seed_1 6 rfl rfl)
theorem dX1_seed_31 : decode cX1_seed 31 = .ok (.iconst 0, 1) := dk_3 (dk_at dksX1_seed_1 9 rfl rfl)
theorem dX1_seed_32 : decode cX1_seed 32 = .ok (.ireturn, 1) := dk_172 (dk_at dksX1_seed_1 10 rfl rfl)
theorem dX1_seed_33 : decode cX1_seed 33 = .ok (.aload_n 0, 1) := dk_42 (dk_at dksX1_seed_1 11 rfl rfl)
theorem dX1_seed_34 : decode cX1_seed 34 = .ok (.getfield 33, 3) := dk_180 0 33 (dk_at dksX1_seed_1 12 rfl rfl)
theorem dX1_seed_37 : decode cX1_seed 37 = .ok (.iload_n 1, 1) := dk_27 (dk_at dksX1_seed_1 15 rfl rfl)
theorem dX1_seed_38 : decode cX1_seed 38 = .ok (.putfield 320, 3) := dk_181 1 64 (dk_at dksX1_seed_1 16 rfl rfl)
theorem dX1_seed_41 : decode cX1_seed 41 = .ok (.iconst 1, 1) := dk_4 (dk_at dksX1_seed_1 19 rfl rfl)
theorem dX1_seed_42 : decode cX1_seed 42 = .ok (.ireturn, 1) := dk_172 (dk_at dksX1_seed_1 20 rfl rfl)
abbrev cX1_yes : ByteArray := prog_1_method_9_code
def yX1_yes : MethodName := ⟨RX1, "yes", "(I)Z"⟩
def dkwX1_yes_0 : List UInt8 := [42, 182, 0, 76, 42, 27, 181, 0, 73, 27, 154, 0, 7, 4, 167, 0, 4, 3, 172]
abbrev dktX1_yes_0 : List UInt8 := dkwX1_yes_0 ++ []
theorem dksX1_yes_0 : cX1_yes.data.toList.drop 0 = dktX1_yes_0 := by decide +kernel
theorem dX1_yes_0 : decode cX1_yes 0 = .ok (.aload_n 0, 1) := dk_42 (dk_at dksX1_yes_0 0 rfl rfl)
theorem dX1_yes_1 : decode cX1_yes 1 = .ok (.invokevirtual 76, 3) := dk_182 0 76 (dk_at dksX1_yes_0 1 rfl rfl)
theorem dX1_yes_4 : decode cX1_yes 4 = .ok (.aload_n 0, 1) := dk_42 (dk_at dksX1_yes_0 4 rfl rfl)
theorem dX1_yes_5 : decode cX1_yes 5 = .ok (.iload_n 1, 1) := dk_27 (dk_at dksX1_yes_0 5 rfl rfl)
theorem dX1_yes_6 : decode cX1_yes 6 = .ok (.putfield 73, 3) := dk_181 0 73 (dk_at dksX1_yes_0 6 rfl rfl)
theorem dX1_yes_9 : decode cX1_yes 9 = .ok (.iload_n 1, 1) := dk_27 (dk_at dksX1_yes_0 9 rfl rfl)
theorem dX1_yes_10 : decode cX1_yes 10 = .ok (.ifCond .ne 7, 3) := dk_154 0 7 (dk_at dksX1_yes_0 10 rfl rfl)
theorem dX1_yes_13 : decode cX1_yes 13 = .ok (.iconst 1, 1) := dk_4 (dk_at dksX1_yes_0 13 rfl rfl)
theorem dX1_yes_14 : decode cX1_yes 14 = .ok (.goto 4, 3) := dk_167 0 4 (dk_at dksX1_yes_0 14 rfl rfl)
theorem dX1_yes_17 : decode cX1_yes 17 = .ok (.iconst 0, 1) := dk_3 (dk_at dksX1_yes_0 17 rfl rfl)
theorem dX1_yes_18 : decode cX1_yes 18 = .ok (.ireturn, 1) := dk_172 (dk_at dksX1_yes_0 18 rfl rfl)
abbrev cX1_undo : ByteArray := prog_1_method_79_code
def yX1_undo : MethodName := ⟨RX1, "undo", "()Z"⟩
def dkwX1_undo_2 : List UInt8 := [87, 4, 172]
abbrev dktX1_undo_2 : List UInt8 := dkwX1_undo_2 ++ []
def dkwX1_undo_1 : List UInt8 := [180, 0, 115, 4, 100, 181, 0, 115, 42, 180, 0, 33, 42, 180, 0, 59, 42, 180, 0, 115, 50, 182, 1, 60]
abbrev dktX1_undo_1 : List UInt8 := dkwX1_undo_1 ++ dktX1_undo_2
def dkwX1_undo_0 : List UInt8 := [42, 42, 180, 0, 115, 154, 0, 8, 16, 6, 167, 0, 4, 3, 182, 1, 93, 154, 0, 5, 3, 172, 42, 89]
abbrev dktX1_undo_0 : List UInt8 := dkwX1_undo_0 ++ dktX1_undo_1
theorem dksX1_undo_0 : cX1_undo.data.toList.drop 0 = dktX1_undo_0 := by decide +kernel
theorem dksX1_undo_1 : cX1_undo.data.toList.drop 24 = dktX1_undo_1 := dk_seg dksX1_undo_0 24 rfl rfl
theorem dksX1_undo_2 : cX1_undo.data.toList.drop 48 = dktX1_undo_2 := dk_seg dksX1_undo_1 24 rfl rfl
theorem dX1_undo_0 : decode cX1_undo 0 = .ok (.aload_n 0, 1) := dk_42 (dk_at dksX1_undo_0 0 rfl rfl)
theorem dX1_undo_1 : decode cX1_undo 1 = .ok (.aload_n 0, 1) := dk_42 (dk_at dksX1_undo_0 1 rfl rfl)
theorem dX1_undo_2 : decode cX1_undo 2 = .ok (.getfield 115, 3) := dk_180 0 115 (dk_at dksX1_undo_0 2 rfl rfl)
theorem dX1_undo_5 : decode cX1_undo 5 = .ok (.ifCond .ne 8, 3) := dk_154 0 8 (dk_at dksX1_undo_0 5 rfl rfl)
theorem dX1_undo_8 : decode cX1_undo 8 = .ok (.bipush 6, 2) := dk_16 6 (dk_at dksX1_undo_0 8 rfl rfl)
theorem dX1_undo_10 : decode cX1_undo 10 = .ok (.goto 4, 3) := dk_167 0 4 (dk_at dksX1_undo_0 10 rfl rfl)
theorem dX1_undo_13 : decode cX1_undo 13 = .ok (.iconst 0, 1) := dk_3 (dk_at dksX1_undo_0 13 rfl rfl)
theorem dX1_undo_14 : decode cX1_undo 14 = .ok (.invokevirtual 349, 3) := dk_182 1 93 (dk_at dksX1_undo_0 14 rfl rfl)
theorem dX1_undo_17 : decode cX1_undo 17 = .ok (.ifCond .ne 5, 3) := dk_154 0 5 (dk_at dksX1_undo_0 17 rfl rfl)
theorem dX1_undo_20 : decode cX1_undo 20 = .ok (.iconst 0, 1) := dk_3 (dk_at dksX1_undo_0 20 rfl rfl)
theorem dX1_undo_21 : decode cX1_undo 21 = .ok (.ireturn, 1) := dk_172 (dk_at dksX1_undo_0 21 rfl rfl)
theorem dX1_undo_22 : decode cX1_undo 22 = .ok (.aload_n 0, 1) := dk_42 (dk_at dksX1_undo_0 22 rfl rfl)
theorem dX1_undo_23 : decode cX1_undo 23 = .ok (.dup, 1) := dk_89 (dk_at dksX1_undo_0 23 rfl rfl)
theorem dX1_undo_24 : decode cX1_undo 24 = .ok (.getfield 115, 3) := dk_180 0 115 (dk_at dksX1_undo_1 0 rfl rfl)
theorem dX1_undo_27 : decode cX1_undo 27 = .ok (.iconst 1, 1) := dk_4 (dk_at dksX1_undo_1 3 rfl rfl)
theorem dX1_undo_28 : decode cX1_undo 28 = .ok (.isub, 1) := dk_100 (dk_at dksX1_undo_1 4 rfl rfl)
theorem dX1_undo_29 : decode cX1_undo 29 = .ok (.putfield 115, 3) := dk_181 0 115 (dk_at dksX1_undo_1 5 rfl rfl)
theorem dX1_undo_32 : decode cX1_undo 32 = .ok (.aload_n 0, 1) := dk_42 (dk_at dksX1_undo_1 8 rfl rfl)
theorem dX1_undo_33 : decode cX1_undo 33 = .ok (.getfield 33, 3) := dk_180 0 33 (dk_at dksX1_undo_1 9 rfl rfl)
theorem dX1_undo_36 : decode cX1_undo 36 = .ok (.aload_n 0, 1) := dk_42 (dk_at dksX1_undo_1 12 rfl rfl)
theorem dX1_undo_37 : decode cX1_undo 37 = .ok (.getfield 59, 3) := dk_180 0 59 (dk_at dksX1_undo_1 13 rfl rfl)
theorem dX1_undo_40 : decode cX1_undo 40 = .ok (.aload_n 0, 1) := dk_42 (dk_at dksX1_undo_1 16 rfl rfl)
theorem dX1_undo_41 : decode cX1_undo 41 = .ok (.getfield 115, 3) := dk_180 0 115 (dk_at dksX1_undo_1 17 rfl rfl)
theorem dX1_undo_44 : decode cX1_undo 44 = .ok (.aaload, 1) := dk_50 (dk_at dksX1_undo_1 20 rfl rfl)
theorem dX1_undo_45 : decode cX1_undo 45 = .ok (.invokevirtual 316, 3) := dk_182 1 60 (dk_at dksX1_undo_1 21 rfl rfl)
theorem dX1_undo_48 : decode cX1_undo 48 = .ok (.pop, 1) := dk_87 (dk_at dksX1_undo_2 0 rfl rfl)
theorem dX1_undo_49 : decode cX1_undo 49 = .ok (.iconst 1, 1) := dk_4 (dk_at dksX1_undo_2 1 rfl rfl)
theorem dX1_undo_50 : decode cX1_undo 50 = .ok (.ireturn, 1) := dk_172 (dk_at dksX1_undo_2 2 rfl rfl)
abbrev cX1_image : ByteArray := prog_1_method_80_code
def yX1_image : MethodName := ⟨RX1, "image", "()I"⟩
def dkwX1_image_2 : List UInt8 := [182, 1, 60, 87, 42, 89, 180, 0, 118, 4, 96, 181, 0, 118, 42, 180, 0, 118, 4, 100, 172]
abbrev dktX1_image_2 : List UInt8 := dkwX1_image_2 ++ []
def dkwX1_image_1 : List UInt8 := [160, 0, 9, 42, 6, 182, 0, 90, 172, 42, 180, 0, 63, 42, 180, 0, 118, 50, 42, 180, 0, 33]
abbrev dktX1_image_1 : List UInt8 := dkwX1_image_1 ++ dktX1_image_2
def dkwX1_image_0 : List UInt8 := [42, 182, 0, 76, 42, 180, 0, 101, 199, 0, 9, 42, 4, 182, 0, 90, 172, 42, 180, 0, 118, 6]
abbrev dktX1_image_0 : List UInt8 := dkwX1_image_0 ++ dktX1_image_1
theorem dksX1_image_0 : cX1_image.data.toList.drop 0 = dktX1_image_0 := by decide +kernel
theorem dksX1_image_1 : cX1_image.data.toList.drop 22 = dktX1_image_1 := dk_seg dksX1_image_0 22 rfl rfl
theorem dksX1_image_2 : cX1_image.data.toList.drop 44 = dktX1_image_2 := dk_seg dksX1_image_1 22 rfl rfl
theorem dX1_image_0 : decode cX1_image 0 = .ok (.aload_n 0, 1) := dk_42 (dk_at dksX1_image_0 0 rfl rfl)
theorem dX1_image_1 : decode cX1_image 1 = .ok (.invokevirtual 76, 3) := dk_182 0 76 (dk_at dksX1_image_0 1 rfl rfl)
theorem dX1_image_4 : decode cX1_image 4 = .ok (.aload_n 0, 1) := dk_42 (dk_at dksX1_image_0 4 rfl rfl)
theorem dX1_image_5 : decode cX1_image 5 = .ok (.getfield 101, 3) := dk_180 0 101 (dk_at dksX1_image_0 5 rfl rfl)
theorem dX1_image_8 : decode cX1_image 8 = .ok (.ifnonnull 9, 3) := dk_199 0 9 (dk_at dksX1_image_0 8 rfl rfl)
theorem dX1_image_11 : decode cX1_image 11 = .ok (.aload_n 0, 1) := dk_42 (dk_at dksX1_image_0 11 rfl rfl)
theorem dX1_image_12 : decode cX1_image 12 = .ok (.iconst 1, 1) := dk_4 (dk_at dksX1_image_0 12 rfl rfl)
theorem dX1_image_13 : decode cX1_image 13 = .ok (.invokevirtual 90, 3) := dk_182 0 90 (dk_at dksX1_image_0 13 rfl rfl)
theorem dX1_image_16 : decode cX1_image 16 = .ok (.ireturn, 1) := dk_172 (dk_at dksX1_image_0 16 rfl rfl)
theorem dX1_image_17 : decode cX1_image 17 = .ok (.aload_n 0, 1) := dk_42 (dk_at dksX1_image_0 17 rfl rfl)
theorem dX1_image_18 : decode cX1_image 18 = .ok (.getfield 118, 3) := dk_180 0 118 (dk_at dksX1_image_0 18 rfl rfl)
theorem dX1_image_21 : decode cX1_image 21 = .ok (.iconst 3, 1) := dk_6 (dk_at dksX1_image_0 21 rfl rfl)
theorem dX1_image_22 : decode cX1_image 22 = .ok (.if_icmp .ne 9, 3) := dk_160 0 9 (dk_at dksX1_image_1 0 rfl rfl)
theorem dX1_image_25 : decode cX1_image 25 = .ok (.aload_n 0, 1) := dk_42 (dk_at dksX1_image_1 3 rfl rfl)
theorem dX1_image_26 : decode cX1_image 26 = .ok (.iconst 3, 1) := dk_6 (dk_at dksX1_image_1 4 rfl rfl)
theorem dX1_image_27 : decode cX1_image 27 = .ok (.invokevirtual 90, 3) := dk_182 0 90 (dk_at dksX1_image_1 5 rfl rfl)
theorem dX1_image_30 : decode cX1_image 30 = .ok (.ireturn, 1) := dk_172 (dk_at dksX1_image_1 8 rfl rfl)
theorem dX1_image_31 : decode cX1_image 31 = .ok (.aload_n 0, 1) := dk_42 (dk_at dksX1_image_1 9 rfl rfl)
theorem dX1_image_32 : decode cX1_image 32 = .ok (.getfield 63, 3) := dk_180 0 63 (dk_at dksX1_image_1 10 rfl rfl)
theorem dX1_image_35 : decode cX1_image 35 = .ok (.aload_n 0, 1) := dk_42 (dk_at dksX1_image_1 13 rfl rfl)
theorem dX1_image_36 : decode cX1_image 36 = .ok (.getfield 118, 3) := dk_180 0 118 (dk_at dksX1_image_1 14 rfl rfl)
theorem dX1_image_39 : decode cX1_image 39 = .ok (.aaload, 1) := dk_50 (dk_at dksX1_image_1 17 rfl rfl)
theorem dX1_image_40 : decode cX1_image 40 = .ok (.aload_n 0, 1) := dk_42 (dk_at dksX1_image_1 18 rfl rfl)
theorem dX1_image_41 : decode cX1_image 41 = .ok (.getfield 33, 3) := dk_180 0 33 (dk_at dksX1_image_1 19 rfl rfl)
theorem dX1_image_44 : decode cX1_image 44 = .ok (.invokevirtual 316, 3) := dk_182 1 60 (dk_at dksX1_image_2 0 rfl rfl)
theorem dX1_image_47 : decode cX1_image 47 = .ok (.pop, 1) := dk_87 (dk_at dksX1_image_2 3 rfl rfl)
theorem dX1_image_48 : decode cX1_image 48 = .ok (.aload_n 0, 1) := dk_42 (dk_at dksX1_image_2 4 rfl rfl)
theorem dX1_image_49 : decode cX1_image 49 = .ok (.dup, 1) := dk_89 (dk_at dksX1_image_2 5 rfl rfl)
theorem dX1_image_50 : decode cX1_image 50 = .ok (.getfield 118, 3) := dk_180 0 118 (dk_at dksX1_image_2 6 rfl rfl)
theorem dX1_image_53 : decode cX1_image 53 = .ok (.iconst 1, 1) := dk_4 (dk_at dksX1_image_2 9 rfl rfl)
theorem dX1_image_54 : decode cX1_image 54 = .ok (.iadd, 1) := dk_96 (dk_at dksX1_image_2 10 rfl rfl)
theorem dX1_image_55 : decode cX1_image 55 = .ok (.putfield 118, 3) := dk_181 0 118 (dk_at dksX1_image_2 11 rfl rfl)
theorem dX1_image_58 : decode cX1_image 58 = .ok (.aload_n 0, 1) := dk_42 (dk_at dksX1_image_2 14 rfl rfl)
theorem dX1_image_59 : decode cX1_image 59 = .ok (.getfield 118, 3) := dk_180 0 118 (dk_at dksX1_image_2 15 rfl rfl)
theorem dX1_image_62 : decode cX1_image 62 = .ok (.iconst 1, 1) := dk_4 (dk_at dksX1_image_2 18 rfl rfl)
theorem dX1_image_63 : decode cX1_image 63 = .ok (.isub, 1) := dk_100 (dk_at dksX1_image_2 19 rfl rfl)
theorem dX1_image_64 : decode cX1_image 64 = .ok (.ireturn, 1) := dk_172 (dk_at dksX1_image_2 20 rfl rfl)
abbrev cX1_back : ByteArray := prog_1_method_81_code
def yX1_back : MethodName := ⟨RX1, "back", "(I)Z"⟩
def dkwX1_back_2 : List UInt8 := [4, 172]
abbrev dktX1_back_2 : List UInt8 := dkwX1_back_2 ++ []
def dkwX1_back_1 : List UInt8 := [154, 0, 5, 3, 172, 42, 180, 0, 33, 42, 180, 0, 63, 27, 50, 182, 1, 60, 87, 42, 3, 181, 0, 115]
abbrev dktX1_back_1 : List UInt8 := dkwX1_back_1 ++ dktX1_back_2
def dkwX1_back_0 : List UInt8 := [42, 27, 3, 42, 180, 0, 118, 4, 100, 184, 0, 86, 153, 0, 7, 3, 167, 0, 4, 4, 182, 1, 93]
abbrev dktX1_back_0 : List UInt8 := dkwX1_back_0 ++ dktX1_back_1
theorem dksX1_back_0 : cX1_back.data.toList.drop 0 = dktX1_back_0 := by decide +kernel
theorem dksX1_back_1 : cX1_back.data.toList.drop 23 = dktX1_back_1 := dk_seg dksX1_back_0 23 rfl rfl
theorem dksX1_back_2 : cX1_back.data.toList.drop 47 = dktX1_back_2 := dk_seg dksX1_back_1 24 rfl rfl
theorem dX1_back_0 : decode cX1_back 0 = .ok (.aload_n 0, 1) := dk_42 (dk_at dksX1_back_0 0 rfl rfl)
theorem dX1_back_1 : decode cX1_back 1 = .ok (.iload_n 1, 1) := dk_27 (dk_at dksX1_back_0 1 rfl rfl)
theorem dX1_back_2 : decode cX1_back 2 = .ok (.iconst 0, 1) := dk_3 (dk_at dksX1_back_0 2 rfl rfl)
theorem dX1_back_3 : decode cX1_back 3 = .ok (.aload_n 0, 1) := dk_42 (dk_at dksX1_back_0 3 rfl rfl)
theorem dX1_back_4 : decode cX1_back 4 = .ok (.getfield 118, 3) := dk_180 0 118 (dk_at dksX1_back_0 4 rfl rfl)
theorem dX1_back_7 : decode cX1_back 7 = .ok (.iconst 1, 1) := dk_4 (dk_at dksX1_back_0 7 rfl rfl)
theorem dX1_back_8 : decode cX1_back 8 = .ok (.isub, 1) := dk_100 (dk_at dksX1_back_0 8 rfl rfl)
theorem dX1_back_9 : decode cX1_back 9 = .ok (.invokestatic 86, 3) := dk_184 0 86 (dk_at dksX1_back_0 9 rfl rfl)
theorem dX1_back_12 : decode cX1_back 12 = .ok (.ifCond .eq 7, 3) := dk_153 0 7 (dk_at dksX1_back_0 12 rfl rfl)
theorem dX1_back_15 : decode cX1_back 15 = .ok (.iconst 0, 1) := dk_3 (dk_at dksX1_back_0 15 rfl rfl)
theorem dX1_back_16 : decode cX1_back 16 = .ok (.goto 4, 3) := dk_167 0 4 (dk_at dksX1_back_0 16 rfl rfl)
theorem dX1_back_19 : decode cX1_back 19 = .ok (.iconst 1, 1) := dk_4 (dk_at dksX1_back_0 19 rfl rfl)
theorem dX1_back_20 : decode cX1_back 20 = .ok (.invokevirtual 349, 3) := dk_182 1 93 (dk_at dksX1_back_0 20 rfl rfl)
theorem dX1_back_23 : decode cX1_back 23 = .ok (.ifCond .ne 5, 3) := dk_154 0 5 (dk_at dksX1_back_1 0 rfl rfl)
theorem dX1_back_26 : decode cX1_back 26 = .ok (.iconst 0, 1) := dk_3 (dk_at dksX1_back_1 3 rfl rfl)
theorem dX1_back_27 : decode cX1_back 27 = .ok (.ireturn, 1) := dk_172 (dk_at dksX1_back_1 4 rfl rfl)
theorem dX1_back_28 : decode cX1_back 28 = .ok (.aload_n 0, 1) := dk_42 (dk_at dksX1_back_1 5 rfl rfl)
theorem dX1_back_29 : decode cX1_back 29 = .ok (.getfield 33, 3) := dk_180 0 33 (dk_at dksX1_back_1 6 rfl rfl)
theorem dX1_back_32 : decode cX1_back 32 = .ok (.aload_n 0, 1) := dk_42 (dk_at dksX1_back_1 9 rfl rfl)
theorem dX1_back_33 : decode cX1_back 33 = .ok (.getfield 63, 3) := dk_180 0 63 (dk_at dksX1_back_1 10 rfl rfl)
theorem dX1_back_36 : decode cX1_back 36 = .ok (.iload_n 1, 1) := dk_27 (dk_at dksX1_back_1 13 rfl rfl)
theorem dX1_back_37 : decode cX1_back 37 = .ok (.aaload, 1) := dk_50 (dk_at dksX1_back_1 14 rfl rfl)
theorem dX1_back_38 : decode cX1_back 38 = .ok (.invokevirtual 316, 3) := dk_182 1 60 (dk_at dksX1_back_1 15 rfl rfl)
theorem dX1_back_41 : decode cX1_back 41 = .ok (.pop, 1) := dk_87 (dk_at dksX1_back_1 18 rfl rfl)
theorem dX1_back_42 : decode cX1_back 42 = .ok (.aload_n 0, 1) := dk_42 (dk_at dksX1_back_1 19 rfl rfl)
theorem dX1_back_43 : decode cX1_back 43 = .ok (.iconst 0, 1) := dk_3 (dk_at dksX1_back_1 20 rfl rfl)
theorem dX1_back_44 : decode cX1_back 44 = .ok (.putfield 115, 3) := dk_181 0 115 (dk_at dksX1_back_1 21 rfl rfl)
theorem dX1_back_47 : decode cX1_back 47 = .ok (.iconst 1, 1) := dk_4 (dk_at dksX1_back_2 0 rfl rfl)
theorem dX1_back_48 : decode cX1_back 48 = .ok (.ireturn, 1) := dk_172 (dk_at dksX1_back_2 1 rfl rfl)
abbrev cX1_size : ByteArray := prog_1_method_83_code
def yX1_size : MethodName := ⟨RX1, "size", "(I)I"⟩
def dkwX1_size_6 : List UInt8 := [180, 1, 90, 172, 42, 180, 0, 33, 180, 1, 64, 172, 42, 180, 0, 115, 172, 42, 180, 0, 118, 172, 2, 172]
abbrev dktX1_size_6 : List UInt8 := dkwX1_size_6 ++ []
def dkwX1_size_5 : List UInt8 := [42, 180, 0, 101, 180, 1, 108, 172, 42, 180, 0, 33, 180, 0, 137, 184, 0, 205, 172, 42, 180, 0, 33]
abbrev dktX1_size_5 : List UInt8 := dkwX1_size_5 ++ dktX1_size_6
def dkwX1_size_4 : List UInt8 := [42, 180, 0, 101, 180, 1, 102, 172, 42, 180, 0, 101, 180, 1, 105, 172, 42, 180, 0, 101, 180, 0, 254, 172]
abbrev dktX1_size_4 : List UInt8 := dkwX1_size_4 ++ dktX1_size_5
def dkwX1_size_3 : List UInt8 := [42, 180, 0, 33, 180, 1, 77, 172, 42, 180, 0, 101, 180, 1, 99, 172, 42, 180, 0, 101, 180, 0, 121, 172]
abbrev dktX1_size_3 : List UInt8 := dkwX1_size_3 ++ dktX1_size_4
def dkwX1_size_2 : List UInt8 := [170, 0, 0, 0, 154, 0, 0, 0, 0, 0, 0, 0, 11, 0, 0, 0, 61, 0, 0, 0, 69, 0, 0, 0, 77, 0, 0, 0, 85, 0, 0, 0, 93, 0, 0, 0, 101, 0, 0, 0, 109, 0, 0, 0, 117, 0, 0, 0, 128, 0, 0, 0, 136, 0, 0, 0, 144, 0, 0, 0, 149]
abbrev dktX1_size_2 : List UInt8 := dkwX1_size_2 ++ dktX1_size_3
def dkwX1_size_1 : List UInt8 := [184, 0, 86, 153, 0, 7, 3, 167, 0, 4, 2, 172, 27]
abbrev dktX1_size_1 : List UInt8 := dkwX1_size_1 ++ dktX1_size_2
def dkwX1_size_0 : List UInt8 := [27, 16, 12, 160, 0, 8, 42, 180, 0, 79, 172, 42, 180, 0, 101, 199, 0, 19, 27, 3, 16, 11]
abbrev dktX1_size_0 : List UInt8 := dkwX1_size_0 ++ dktX1_size_1
theorem dksX1_size_0 : cX1_size.data.toList.drop 0 = dktX1_size_0 := by decide +kernel
theorem dksX1_size_1 : cX1_size.data.toList.drop 22 = dktX1_size_1 := dk_seg dksX1_size_0 22 rfl rfl
theorem dksX1_size_2 : cX1_size.data.toList.drop 35 = dktX1_size_2 := dk_seg dksX1_size_1 13 rfl rfl
theorem dksX1_size_3 : cX1_size.data.toList.drop 96 = dktX1_size_3 := dk_seg dksX1_size_2 61 rfl rfl
theorem dksX1_size_4 : cX1_size.data.toList.drop 120 = dktX1_size_4 := dk_seg dksX1_size_3 24 rfl rfl
theorem dksX1_size_5 : cX1_size.data.toList.drop 144 = dktX1_size_5 := dk_seg dksX1_size_4 24 rfl rfl
theorem dksX1_size_6 : cX1_size.data.toList.drop 167 = dktX1_size_6 := dk_seg dksX1_size_5 23 rfl rfl
theorem dX1_size_0 : decode cX1_size 0 = .ok (.iload_n 1, 1) := dk_27 (dk_at dksX1_size_0 0 rfl rfl)
theorem dX1_size_1 : decode cX1_size 1 = .ok (.bipush 12, 2) := dk_16 12 (dk_at dksX1_size_0 1 rfl rfl)
theorem dX1_size_3 : decode cX1_size 3 = .ok (.if_icmp .ne 8, 3) := dk_160 0 8 (dk_at dksX1_size_0 3 rfl rfl)
theorem dX1_size_6 : decode cX1_size 6 = .ok (.aload_n 0, 1) := dk_42 (dk_at dksX1_size_0 6 rfl rfl)
theorem dX1_size_7 : decode cX1_size 7 = .ok (.getfield 79, 3) := dk_180 0 79 (dk_at dksX1_size_0 7 rfl rfl)
theorem dX1_size_10 : decode cX1_size 10 = .ok (.ireturn, 1) := dk_172 (dk_at dksX1_size_0 10 rfl rfl)
theorem dX1_size_11 : decode cX1_size 11 = .ok (.aload_n 0, 1) := dk_42 (dk_at dksX1_size_0 11 rfl rfl)
theorem dX1_size_12 : decode cX1_size 12 = .ok (.getfield 101, 3) := dk_180 0 101 (dk_at dksX1_size_0 12 rfl rfl)
theorem dX1_size_15 : decode cX1_size 15 = .ok (.ifnonnull 19, 3) := dk_199 0 19 (dk_at dksX1_size_0 15 rfl rfl)
theorem dX1_size_18 : decode cX1_size 18 = .ok (.iload_n 1, 1) := dk_27 (dk_at dksX1_size_0 18 rfl rfl)
theorem dX1_size_19 : decode cX1_size 19 = .ok (.iconst 0, 1) := dk_3 (dk_at dksX1_size_0 19 rfl rfl)
theorem dX1_size_20 : decode cX1_size 20 = .ok (.bipush 11, 2) := dk_16 11 (dk_at dksX1_size_0 20 rfl rfl)
theorem dX1_size_22 : decode cX1_size 22 = .ok (.invokestatic 86, 3) := dk_184 0 86 (dk_at dksX1_size_1 0 rfl rfl)
theorem dX1_size_25 : decode cX1_size 25 = .ok (.ifCond .eq 7, 3) := dk_153 0 7 (dk_at dksX1_size_1 3 rfl rfl)
theorem dX1_size_28 : decode cX1_size 28 = .ok (.iconst 0, 1) := dk_3 (dk_at dksX1_size_1 6 rfl rfl)
theorem dX1_size_29 : decode cX1_size 29 = .ok (.goto 4, 3) := dk_167 0 4 (dk_at dksX1_size_1 7 rfl rfl)
theorem dX1_size_32 : decode cX1_size 32 = .ok (.iconst (-1), 1) := dk_2 (dk_at dksX1_size_1 10 rfl rfl)
theorem dX1_size_33 : decode cX1_size 33 = .ok (.ireturn, 1) := dk_172 (dk_at dksX1_size_1 11 rfl rfl)
theorem dX1_size_34 : decode cX1_size 34 = .ok (.iload_n 1, 1) := dk_27 (dk_at dksX1_size_1 12 rfl rfl)
theorem dX1_size_35 : decode cX1_size 35 = .ok (.tableswitch 154 0 11 #[61, 69, 77, 85, 93, 101, 109, 117, 128, 136, 144, 149], 61) := by decide +kernel
theorem dX1_size_96 : decode cX1_size 96 = .ok (.aload_n 0, 1) := dk_42 (dk_at dksX1_size_3 0 rfl rfl)
theorem dX1_size_97 : decode cX1_size 97 = .ok (.getfield 33, 3) := dk_180 0 33 (dk_at dksX1_size_3 1 rfl rfl)
theorem dX1_size_100 : decode cX1_size 100 = .ok (.getfield 333, 3) := dk_180 1 77 (dk_at dksX1_size_3 4 rfl rfl)
theorem dX1_size_103 : decode cX1_size 103 = .ok (.ireturn, 1) := dk_172 (dk_at dksX1_size_3 7 rfl rfl)
theorem dX1_size_104 : decode cX1_size 104 = .ok (.aload_n 0, 1) := dk_42 (dk_at dksX1_size_3 8 rfl rfl)
theorem dX1_size_105 : decode cX1_size 105 = .ok (.getfield 101, 3) := dk_180 0 101 (dk_at dksX1_size_3 9 rfl rfl)
theorem dX1_size_108 : decode cX1_size 108 = .ok (.getfield 355, 3) := dk_180 1 99 (dk_at dksX1_size_3 12 rfl rfl)
theorem dX1_size_111 : decode cX1_size 111 = .ok (.ireturn, 1) := dk_172 (dk_at dksX1_size_3 15 rfl rfl)
theorem dX1_size_112 : decode cX1_size 112 = .ok (.aload_n 0, 1) := dk_42 (dk_at dksX1_size_3 16 rfl rfl)
theorem dX1_size_113 : decode cX1_size 113 = .ok (.getfield 101, 3) := dk_180 0 101 (dk_at dksX1_size_3 17 rfl rfl)
theorem dX1_size_116 : decode cX1_size 116 = .ok (.getfield 121, 3) := dk_180 0 121 (dk_at dksX1_size_3 20 rfl rfl)
theorem dX1_size_119 : decode cX1_size 119 = .ok (.ireturn, 1) := dk_172 (dk_at dksX1_size_3 23 rfl rfl)
theorem dX1_size_120 : decode cX1_size 120 = .ok (.aload_n 0, 1) := dk_42 (dk_at dksX1_size_4 0 rfl rfl)
theorem dX1_size_121 : decode cX1_size 121 = .ok (.getfield 101, 3) := dk_180 0 101 (dk_at dksX1_size_4 1 rfl rfl)
theorem dX1_size_124 : decode cX1_size 124 = .ok (.getfield 358, 3) := dk_180 1 102 (dk_at dksX1_size_4 4 rfl rfl)
theorem dX1_size_127 : decode cX1_size 127 = .ok (.ireturn, 1) := dk_172 (dk_at dksX1_size_4 7 rfl rfl)
theorem dX1_size_128 : decode cX1_size 128 = .ok (.aload_n 0, 1) := dk_42 (dk_at dksX1_size_4 8 rfl rfl)
theorem dX1_size_129 : decode cX1_size 129 = .ok (.getfield 101, 3) := dk_180 0 101 (dk_at dksX1_size_4 9 rfl rfl)
theorem dX1_size_132 : decode cX1_size 132 = .ok (.getfield 361, 3) := dk_180 1 105 (dk_at dksX1_size_4 12 rfl rfl)
theorem dX1_size_135 : decode cX1_size 135 = .ok (.ireturn, 1) := dk_172 (dk_at dksX1_size_4 15 rfl rfl)
theorem dX1_size_136 : decode cX1_size 136 = .ok (.aload_n 0, 1) := dk_42 (dk_at dksX1_size_4 16 rfl rfl)
theorem dX1_size_137 : decode cX1_size 137 = .ok (.getfield 101, 3) := dk_180 0 101 (dk_at dksX1_size_4 17 rfl rfl)
theorem dX1_size_140 : decode cX1_size 140 = .ok (.getfield 254, 3) := dk_180 0 254 (dk_at dksX1_size_4 20 rfl rfl)
theorem dX1_size_143 : decode cX1_size 143 = .ok (.ireturn, 1) := dk_172 (dk_at dksX1_size_4 23 rfl rfl)
theorem dX1_size_144 : decode cX1_size 144 = .ok (.aload_n 0, 1) := dk_42 (dk_at dksX1_size_5 0 rfl rfl)
theorem dX1_size_145 : decode cX1_size 145 = .ok (.getfield 101, 3) := dk_180 0 101 (dk_at dksX1_size_5 1 rfl rfl)
theorem dX1_size_148 : decode cX1_size 148 = .ok (.getfield 364, 3) := dk_180 1 108 (dk_at dksX1_size_5 4 rfl rfl)
theorem dX1_size_151 : decode cX1_size 151 = .ok (.ireturn, 1) := dk_172 (dk_at dksX1_size_5 7 rfl rfl)
theorem dX1_size_152 : decode cX1_size 152 = .ok (.aload_n 0, 1) := dk_42 (dk_at dksX1_size_5 8 rfl rfl)
theorem dX1_size_153 : decode cX1_size 153 = .ok (.getfield 33, 3) := dk_180 0 33 (dk_at dksX1_size_5 9 rfl rfl)
theorem dX1_size_156 : decode cX1_size 156 = .ok (.getfield 137, 3) := dk_180 0 137 (dk_at dksX1_size_5 12 rfl rfl)
theorem dX1_size_159 : decode cX1_size 159 = .ok (.invokestatic 205, 3) := dk_184 0 205 (dk_at dksX1_size_5 15 rfl rfl)
theorem dX1_size_162 : decode cX1_size 162 = .ok (.ireturn, 1) := dk_172 (dk_at dksX1_size_5 18 rfl rfl)
theorem dX1_size_163 : decode cX1_size 163 = .ok (.aload_n 0, 1) := dk_42 (dk_at dksX1_size_5 19 rfl rfl)
theorem dX1_size_164 : decode cX1_size 164 = .ok (.getfield 33, 3) := dk_180 0 33 (dk_at dksX1_size_5 20 rfl rfl)
theorem dX1_size_167 : decode cX1_size 167 = .ok (.getfield 346, 3) := dk_180 1 90 (dk_at dksX1_size_6 0 rfl rfl)
theorem dX1_size_170 : decode cX1_size 170 = .ok (.ireturn, 1) := dk_172 (dk_at dksX1_size_6 3 rfl rfl)
theorem dX1_size_171 : decode cX1_size 171 = .ok (.aload_n 0, 1) := dk_42 (dk_at dksX1_size_6 4 rfl rfl)
theorem dX1_size_172 : decode cX1_size 172 = .ok (.getfield 33, 3) := dk_180 0 33 (dk_at dksX1_size_6 5 rfl rfl)
theorem dX1_size_175 : decode cX1_size 175 = .ok (.getfield 320, 3) := dk_180 1 64 (dk_at dksX1_size_6 8 rfl rfl)
theorem dX1_size_178 : decode cX1_size 178 = .ok (.ireturn, 1) := dk_172 (dk_at dksX1_size_6 11 rfl rfl)
theorem dX1_size_179 : decode cX1_size 179 = .ok (.aload_n 0, 1) := dk_42 (dk_at dksX1_size_6 12 rfl rfl)
theorem dX1_size_180 : decode cX1_size 180 = .ok (.getfield 115, 3) := dk_180 0 115 (dk_at dksX1_size_6 13 rfl rfl)
theorem dX1_size_183 : decode cX1_size 183 = .ok (.ireturn, 1) := dk_172 (dk_at dksX1_size_6 16 rfl rfl)
theorem dX1_size_184 : decode cX1_size 184 = .ok (.aload_n 0, 1) := dk_42 (dk_at dksX1_size_6 17 rfl rfl)
theorem dX1_size_185 : decode cX1_size 185 = .ok (.getfield 118, 3) := dk_180 0 118 (dk_at dksX1_size_6 18 rfl rfl)
theorem dX1_size_188 : decode cX1_size 188 = .ok (.ireturn, 1) := dk_172 (dk_at dksX1_size_6 21 rfl rfl)
theorem dX1_size_189 : decode cX1_size 189 = .ok (.iconst (-1), 1) := dk_2 (dk_at dksX1_size_6 22 rfl rfl)
theorem dX1_size_190 : decode cX1_size 190 = .ok (.ireturn, 1) := dk_172 (dk_at dksX1_size_6 23 rfl rfl)
abbrev cX1_trouble : ByteArray := prog_1_method_84_code
def yX1_trouble : MethodName := ⟨RX1, "trouble", "()I"⟩
theorem dX1_trouble_0 : decode cX1_trouble 0 = .ok (.aload_n 0, 1) := by decide +kernel
theorem dX1_trouble_1 : decode cX1_trouble 1 = .ok (.getfield 73, 3) := by decide +kernel
theorem dX1_trouble_4 : decode cX1_trouble 4 = .ok (.ireturn, 1) := by decide +kernel
abbrev cX1_led : ByteArray := prog_1_method_82_code
def yX1_led : MethodName := ⟨RX1, "led", "(I)I"⟩
def dkwX1_led_3 : List UInt8 := [183, 1, 98, 191]
abbrev dktX1_led_3 : List UInt8 := dkwX1_led_3 ++ []
def dkwX1_led_2 : List UInt8 := [167, 0, 13, 28, 27, 160, 0, 5, 29, 172, 132, 2, 1, 132, 3, 1, 167, 255, 198, 187, 1, 96, 89]
abbrev dktX1_led_2 : List UInt8 := dkwX1_led_2 ++ dktX1_led_3
def dkwX1_led_1 : List UInt8 := [180, 0, 33, 29, 182, 0, 130, 153, 0, 29, 42, 180, 0, 33, 29, 182, 0, 178, 16, 254, 159, 0, 6]
abbrev dktX1_led_1 : List UInt8 := dkwX1_led_1 ++ dktX1_led_2
def dkwX1_led_0 : List UInt8 := [3, 61, 3, 62, 42, 180, 0, 101, 198, 0, 57, 29, 42, 180, 0, 101, 180, 0, 121, 162, 0, 46, 42]
abbrev dktX1_led_0 : List UInt8 := dkwX1_led_0 ++ dktX1_led_1
theorem dksX1_led_0 : cX1_led.data.toList.drop 0 = dktX1_led_0 := by decide +kernel
theorem dksX1_led_1 : cX1_led.data.toList.drop 23 = dktX1_led_1 := dk_seg dksX1_led_0 23 rfl rfl
theorem dksX1_led_2 : cX1_led.data.toList.drop 46 = dktX1_led_2 := dk_seg dksX1_led_1 23 rfl rfl
theorem dksX1_led_3 : cX1_led.data.toList.drop 69 = dktX1_led_3 := dk_seg dksX1_led_2 23 rfl rfl
theorem dX1_led_0 : decode cX1_led 0 = .ok (.iconst 0, 1) := dk_3 (dk_at dksX1_led_0 0 rfl rfl)
theorem dX1_led_1 : decode cX1_led 1 = .ok (.istore_n 2, 1) := dk_61 (dk_at dksX1_led_0 1 rfl rfl)
theorem dX1_led_2 : decode cX1_led 2 = .ok (.iconst 0, 1) := dk_3 (dk_at dksX1_led_0 2 rfl rfl)
theorem dX1_led_3 : decode cX1_led 3 = .ok (.istore_n 3, 1) := dk_62 (dk_at dksX1_led_0 3 rfl rfl)
theorem dX1_led_4 : decode cX1_led 4 = .ok (.aload_n 0, 1) := dk_42 (dk_at dksX1_led_0 4 rfl rfl)
theorem dX1_led_5 : decode cX1_led 5 = .ok (.getfield 101, 3) := dk_180 0 101 (dk_at dksX1_led_0 5 rfl rfl)
theorem dX1_led_8 : decode cX1_led 8 = .ok (.ifnull 57, 3) := dk_198 0 57 (dk_at dksX1_led_0 8 rfl rfl)
theorem dX1_led_11 : decode cX1_led 11 = .ok (.iload_n 3, 1) := dk_29 (dk_at dksX1_led_0 11 rfl rfl)
theorem dX1_led_12 : decode cX1_led 12 = .ok (.aload_n 0, 1) := dk_42 (dk_at dksX1_led_0 12 rfl rfl)
theorem dX1_led_13 : decode cX1_led 13 = .ok (.getfield 101, 3) := dk_180 0 101 (dk_at dksX1_led_0 13 rfl rfl)
theorem dX1_led_16 : decode cX1_led 16 = .ok (.getfield 121, 3) := dk_180 0 121 (dk_at dksX1_led_0 16 rfl rfl)
theorem dX1_led_19 : decode cX1_led 19 = .ok (.if_icmp .ge 46, 3) := dk_162 0 46 (dk_at dksX1_led_0 19 rfl rfl)
theorem dX1_led_22 : decode cX1_led 22 = .ok (.aload_n 0, 1) := dk_42 (dk_at dksX1_led_0 22 rfl rfl)
theorem dX1_led_23 : decode cX1_led 23 = .ok (.getfield 33, 3) := dk_180 0 33 (dk_at dksX1_led_1 0 rfl rfl)
theorem dX1_led_26 : decode cX1_led 26 = .ok (.iload_n 3, 1) := dk_29 (dk_at dksX1_led_1 3 rfl rfl)
theorem dX1_led_27 : decode cX1_led 27 = .ok (.invokevirtual 130, 3) := dk_182 0 130 (dk_at dksX1_led_1 4 rfl rfl)
theorem dX1_led_30 : decode cX1_led 30 = .ok (.ifCond .eq 29, 3) := dk_153 0 29 (dk_at dksX1_led_1 7 rfl rfl)
theorem dX1_led_33 : decode cX1_led 33 = .ok (.aload_n 0, 1) := dk_42 (dk_at dksX1_led_1 10 rfl rfl)
theorem dX1_led_34 : decode cX1_led 34 = .ok (.getfield 33, 3) := dk_180 0 33 (dk_at dksX1_led_1 11 rfl rfl)
theorem dX1_led_37 : decode cX1_led 37 = .ok (.iload_n 3, 1) := dk_29 (dk_at dksX1_led_1 14 rfl rfl)
theorem dX1_led_38 : decode cX1_led 38 = .ok (.invokevirtual 178, 3) := dk_182 0 178 (dk_at dksX1_led_1 15 rfl rfl)
theorem dX1_led_41 : decode cX1_led 41 = .ok (.bipush (-2), 2) := dk_16 254 (dk_at dksX1_led_1 18 rfl rfl)
theorem dX1_led_43 : decode cX1_led 43 = .ok (.if_icmp .eq 6, 3) := dk_159 0 6 (dk_at dksX1_led_1 20 rfl rfl)
theorem dX1_led_46 : decode cX1_led 46 = .ok (.goto 13, 3) := dk_167 0 13 (dk_at dksX1_led_2 0 rfl rfl)
theorem dX1_led_49 : decode cX1_led 49 = .ok (.iload_n 2, 1) := dk_28 (dk_at dksX1_led_2 3 rfl rfl)
theorem dX1_led_50 : decode cX1_led 50 = .ok (.iload_n 1, 1) := dk_27 (dk_at dksX1_led_2 4 rfl rfl)
theorem dX1_led_51 : decode cX1_led 51 = .ok (.if_icmp .ne 5, 3) := dk_160 0 5 (dk_at dksX1_led_2 5 rfl rfl)
theorem dX1_led_54 : decode cX1_led 54 = .ok (.iload_n 3, 1) := dk_29 (dk_at dksX1_led_2 8 rfl rfl)
theorem dX1_led_55 : decode cX1_led 55 = .ok (.ireturn, 1) := dk_172 (dk_at dksX1_led_2 9 rfl rfl)
theorem dX1_led_56 : decode cX1_led 56 = .ok (.iinc 2 1, 3) := dk_132 2 1 (dk_at dksX1_led_2 10 rfl rfl)
theorem dX1_led_59 : decode cX1_led 59 = .ok (.iinc 3 1, 3) := dk_132 3 1 (dk_at dksX1_led_2 13 rfl rfl)
theorem dX1_led_62 : decode cX1_led 62 = .ok (.goto (-58), 3) := dk_167 255 198 (dk_at dksX1_led_2 16 rfl rfl)
theorem dX1_led_65 : decode cX1_led 65 = .ok (.new 352, 3) := dk_187 1 96 (dk_at dksX1_led_2 19 rfl rfl)
theorem dX1_led_68 : decode cX1_led 68 = .ok (.dup, 1) := dk_89 (dk_at dksX1_led_2 22 rfl rfl)
theorem dX1_led_69 : decode cX1_led 69 = .ok (.invokespecial 354, 3) := dk_183 1 98 (dk_at dksX1_led_3 0 rfl rfl)
theorem dX1_led_72 : decode cX1_led 72 = .ok (.athrow, 1) := dk_191 (dk_at dksX1_led_3 3 rfl rfl)
theorem q113 : (Jvm.Cond.initialized "LastAsked") ∈ lw_all := lw_g (lw_at lw_m1 1 rfl) rfl
theorem q139 : (Jvm.Cond.instantiable "LastAsked" (20 : Nat)) ∈ lw_all := lw_g (lw_at lw_m1 27 rfl) rfl
theorem q141 : (Jvm.Cond.instanceMethod ({ cls := "LastAsked", name := "<init>", desc := "()V" } : Jvm.MethodName)) ∈ lw_all := lw_g (lw_at lw_m1 29 rfl) rfl
theorem q142 : (Jvm.Cond.code ({ cls := "LastAsked", name := "<init>", desc := "()V" } : Jvm.MethodName) prog_1_method_6_code (2 : Nat) (Option.none : Option Jvm.ClassFile.FieldType)) ∈ lw_all := lw_g (lw_at lw_m1 30 rfl) rfl
theorem q143 : (Jvm.Cond.methodLink "LastAsked" (7 : Nat) ({ cls := "java/lang/Object", name := "<init>", desc := "()V" } : Jvm.MethodName)) ∈ lw_all := lw_g (lw_at lw_m1 31 rfl) rfl
theorem q146 : (Jvm.Cond.classLink "LastAsked" (17 : Nat) "LastAsked$Scanner") ∈ lw_all := lw_g (lw_at lw_m1 34 rfl) rfl
theorem q148 : (Jvm.Cond.methodLink "LastAsked" (19 : Nat) ({ cls := "LastAsked$Scanner", name := "<init>", desc := "([B)V" } : Jvm.MethodName)) ∈ lw_all := lw_g (lw_at lw_m1 36 rfl) rfl
theorem q205 : (Jvm.Cond.fieldLink "LastAsked" (107 : Nat) "LastAsked$Refused" "fault" "I") ∈ lw_all := lw_g (lw_at lw_m1 93 rfl) rfl
theorem q207 : (Jvm.Cond.fieldLink "LastAsked" (108 : Nat) "LastAsked$Refused" "place" "I") ∈ lw_all := lw_g (lw_at lw_m1 95 rfl) rfl
theorem q261 : (Jvm.Cond.classLink "LastAsked" (30 : Nat) "LastAsked$Town") ∈ lw_all := lw_g (lw_at lw_m1 149 rfl) rfl
theorem q263 : (Jvm.Cond.methodLinkNest "LastAsked" (32 : Nat) ({ cls := "LastAsked$Town", name := "<init>", desc := "()V" } : Jvm.MethodName) "LastAsked") ∈ lw_tbl := lw_at lw_m1 151 rfl
theorem q269 : (Jvm.Cond.fieldLink "LastAsked" (153 : Nat) "LastAsked$Town" "has" "[I") ∈ lw_all := lw_g (lw_at lw_m1 157 rfl) rfl
theorem q271 : (Jvm.Cond.fieldLink "LastAsked" (263 : Nat) "LastAsked$Town" "hours" "[I") ∈ lw_all := lw_g (lw_at lw_m1 159 rfl) rfl
theorem q277 : (Jvm.Cond.fieldLink "LastAsked" (137 : Nat) "LastAsked$Town" "living" "I") ∈ lw_all := lw_g (lw_at lw_m1 165 rfl) rfl
theorem q279 : (Jvm.Cond.fieldLink "LastAsked" (333 : Nat) "LastAsked$Town" "hour" "I") ∈ lw_all := lw_g (lw_at lw_m1 167 rfl) rfl
theorem q282 : (Jvm.Cond.fieldLink "LastAsked" (187 : Nat) "LastAsked$Town" "cat" "I") ∈ lw_all := lw_g (lw_at lw_m1 170 rfl) rfl
theorem q284 : (Jvm.Cond.fieldLink "LastAsked" (346 : Nat) "LastAsked$Town" "nights" "I") ∈ lw_all := lw_g (lw_at lw_m1 172 rfl) rfl
theorem q286 : (Jvm.Cond.fieldLink "LastAsked" (320 : Nat) "LastAsked$Town" "seed" "I") ∈ lw_all := lw_g (lw_at lw_m1 174 rfl) rfl
theorem q305 : (Jvm.Cond.classLink "LastAsked" (43 : Nat) "LastAsked$Night") ∈ lw_all := lw_g (lw_at lw_m1 193 rfl) rfl
theorem q307 : (Jvm.Cond.methodLinkNest "LastAsked" (45 : Nat) ({ cls := "LastAsked$Night", name := "<init>", desc := "()V" } : Jvm.MethodName) "LastAsked") ∈ lw_tbl := lw_at lw_m1 195 rfl
theorem q315 : (Jvm.Cond.fieldLink "LastAsked" (212 : Nat) "LastAsked$Night" "all" "J") ∈ lw_all := lw_g (lw_at lw_m1 203 rfl) rfl
theorem q321 : (Jvm.Cond.classLink "LastAsked" (50 : Nat) "LastAsked$Asks") ∈ lw_all := lw_g (lw_at lw_m1 209 rfl) rfl
theorem q323 : (Jvm.Cond.methodLink "LastAsked" (52 : Nat) ({ cls := "LastAsked$Asks", name := "<init>", desc := "(LLastAsked$Night;)V" } : Jvm.MethodName)) ∈ lw_all := lw_g (lw_at lw_m1 211 rfl) rfl
theorem q336 : (Jvm.Cond.fieldLink "LastAsked" (234 : Nat) "LastAsked$Asks" "row" "I") ∈ lw_all := lw_g (lw_at lw_m1 224 rfl) rfl
theorem q338 : (Jvm.Cond.fieldLink "LastAsked" (243 : Nat) "LastAsked$Asks" "set" "I") ∈ lw_all := lw_g (lw_at lw_m1 226 rfl) rfl
theorem q340 : (Jvm.Cond.fieldLink "LastAsked" (237 : Nat) "LastAsked$Asks" "most" "J") ∈ lw_all := lw_g (lw_at lw_m1 228 rfl) rfl
theorem q358 : (Jvm.Cond.fieldLink "LastAsked" (13 : Nat) "LastAsked" "tape" "[B") ∈ lw_all := lw_g (lw_at lw_m2 6 rfl) rfl
theorem q359 : (Jvm.Cond.fieldLink "LastAsked" (79 : Nat) "LastAsked" "taped" "I") ∈ lw_all := lw_g (lw_at lw_m2 7 rfl) rfl
theorem q360 : (Jvm.Cond.fieldLink "LastAsked" (22 : Nat) "LastAsked" "scanner" "LLastAsked$Scanner;") ∈ lw_all := lw_g (lw_at lw_m2 8 rfl) rfl
theorem q361 : (Jvm.Cond.fieldLink "LastAsked" (101 : Nat) "LastAsked" "city" "LLastAsked$City;") ∈ lw_all := lw_g (lw_at lw_m2 9 rfl) rfl
theorem q362 : (Jvm.Cond.fieldLink "LastAsked" (73 : Nat) "LastAsked" "trouble" "I") ∈ lw_all := lw_g (lw_at lw_m2 10 rfl) rfl
theorem q363 : (Jvm.Cond.fieldLink "LastAsked" (94 : Nat) "LastAsked" "fault" "I") ∈ lw_all := lw_g (lw_at lw_m2 11 rfl) rfl
theorem q364 : (Jvm.Cond.fieldLink "LastAsked" (26 : Nat) "LastAsked" "where" "I") ∈ lw_all := lw_g (lw_at lw_m2 12 rfl) rfl
theorem q365 : (Jvm.Cond.fieldLink "LastAsked" (118 : Nat) "LastAsked" "imageMany" "I") ∈ lw_all := lw_g (lw_at lw_m2 13 rfl) rfl
theorem q366 : (Jvm.Cond.fieldLink "LastAsked" (115 : Nat) "LastAsked" "undoMany" "I") ∈ lw_all := lw_g (lw_at lw_m2 14 rfl) rfl
theorem q367 : (Jvm.Cond.fieldLink "LastAsked" (33 : Nat) "LastAsked" "town" "LLastAsked$Town;") ∈ lw_all := lw_g (lw_at lw_m2 15 rfl) rfl
theorem q368 : (Jvm.Cond.fieldLink "LastAsked" (37 : Nat) "LastAsked" "was" "LLastAsked$Town;") ∈ lw_all := lw_g (lw_at lw_m2 16 rfl) rfl
theorem q369 : (Jvm.Cond.fieldLink "LastAsked" (40 : Nat) "LastAsked" "trial" "LLastAsked$Town;") ∈ lw_all := lw_g (lw_at lw_m2 17 rfl) rfl
theorem q370 : (Jvm.Cond.fieldLink "LastAsked" (46 : Nat) "LastAsked" "night" "LLastAsked$Night;") ∈ lw_all := lw_g (lw_at lw_m2 18 rfl) rfl
theorem q371 : (Jvm.Cond.fieldLink "LastAsked" (55 : Nat) "LastAsked" "plans" "LLastAsked$Asks;") ∈ lw_all := lw_g (lw_at lw_m2 19 rfl) rfl
theorem q372 : (Jvm.Cond.fieldLink "LastAsked" (59 : Nat) "LastAsked" "undone" "[LLastAsked$Town;") ∈ lw_all := lw_g (lw_at lw_m2 20 rfl) rfl
theorem q373 : (Jvm.Cond.fieldLink "LastAsked" (63 : Nat) "LastAsked" "images" "[LLastAsked$Town;") ∈ lw_all := lw_g (lw_at lw_m2 21 rfl) rfl
theorem q374 : (Jvm.Cond.fieldLink "LastAsked" (66 : Nat) "LastAsked" "often" "[I") ∈ lw_all := lw_g (lw_at lw_m2 22 rfl) rfl
theorem q375 : (Jvm.Cond.fieldLink "LastAsked" (305 : Nat) "LastAsked" "firstRest" "I") ∈ lw_all := lw_g (lw_at lw_m2 23 rfl) rfl
theorem q376 : (Jvm.Cond.fieldLink "LastAsked" (70 : Nat) "LastAsked" "next" "LLastAsked$Town;") ∈ lw_all := lw_g (lw_at lw_m2 24 rfl) rfl
theorem q377 : (Jvm.Cond.fieldLink "LastAsked" (323 : Nat) "LastAsked" "catAt" "I") ∈ lw_all := lw_g (lw_at lw_m2 25 rfl) rfl
theorem q378 : (Jvm.Cond.laysFinal "LastAsked" "LastAsked" "tape" "[B") ∈ lw_all := lw_g (lw_at lw_m2 26 rfl) rfl
theorem q379 : (Jvm.Cond.soleField "LastAsked" "tape") ∈ lw_all := lw_g (lw_at lw_m2 27 rfl) rfl
theorem q380 : (Jvm.Cond.lays "LastAsked" "LastAsked" "taped" "I") ∈ lw_all := lw_g (lw_at lw_m2 28 rfl) rfl
theorem q381 : (Jvm.Cond.soleField "LastAsked" "taped") ∈ lw_all := lw_g (lw_at lw_m2 29 rfl) rfl
theorem q382 : (Jvm.Cond.laysFinal "LastAsked" "LastAsked" "scanner" "LLastAsked$Scanner;") ∈ lw_all := lw_g (lw_at lw_m2 30 rfl) rfl
theorem q383 : (Jvm.Cond.soleField "LastAsked" "scanner") ∈ lw_all := lw_g (lw_at lw_m2 31 rfl) rfl
theorem q384 : (Jvm.Cond.lays "LastAsked" "LastAsked" "city" "LLastAsked$City;") ∈ lw_all := lw_g (lw_at lw_m2 32 rfl) rfl
theorem q385 : (Jvm.Cond.soleField "LastAsked" "city") ∈ lw_all := lw_g (lw_at lw_m2 33 rfl) rfl
theorem q386 : (Jvm.Cond.lays "LastAsked" "LastAsked" "trouble" "I") ∈ lw_all := lw_g (lw_at lw_m2 34 rfl) rfl
theorem q387 : (Jvm.Cond.soleField "LastAsked" "trouble") ∈ lw_all := lw_g (lw_at lw_m2 35 rfl) rfl
theorem q388 : (Jvm.Cond.lays "LastAsked" "LastAsked" "fault" "I") ∈ lw_all := lw_g (lw_at lw_m2 36 rfl) rfl
theorem q389 : (Jvm.Cond.soleField "LastAsked" "fault") ∈ lw_all := lw_g (lw_at lw_m2 37 rfl) rfl
theorem q390 : (Jvm.Cond.lays "LastAsked" "LastAsked" "where" "I") ∈ lw_all := lw_g (lw_at lw_m2 38 rfl) rfl
theorem q391 : (Jvm.Cond.soleField "LastAsked" "where") ∈ lw_all := lw_g (lw_at lw_m2 39 rfl) rfl
theorem q392 : (Jvm.Cond.lays "LastAsked" "LastAsked" "imageMany" "I") ∈ lw_all := lw_g (lw_at lw_m2 40 rfl) rfl
theorem q393 : (Jvm.Cond.soleField "LastAsked" "imageMany") ∈ lw_all := lw_g (lw_at lw_m2 41 rfl) rfl
theorem q394 : (Jvm.Cond.lays "LastAsked" "LastAsked" "undoMany" "I") ∈ lw_all := lw_g (lw_at lw_m2 42 rfl) rfl
theorem q395 : (Jvm.Cond.soleField "LastAsked" "undoMany") ∈ lw_all := lw_g (lw_at lw_m2 43 rfl) rfl
theorem q396 : (Jvm.Cond.laysFinal "LastAsked" "LastAsked" "town" "LLastAsked$Town;") ∈ lw_all := lw_g (lw_at lw_m2 44 rfl) rfl
theorem q397 : (Jvm.Cond.soleField "LastAsked" "town") ∈ lw_all := lw_g (lw_at lw_m2 45 rfl) rfl
theorem q398 : (Jvm.Cond.laysFinal "LastAsked" "LastAsked" "was" "LLastAsked$Town;") ∈ lw_all := lw_g (lw_at lw_m2 46 rfl) rfl
theorem q399 : (Jvm.Cond.soleField "LastAsked" "was") ∈ lw_all := lw_g (lw_at lw_m2 47 rfl) rfl
theorem q400 : (Jvm.Cond.laysFinal "LastAsked" "LastAsked" "trial" "LLastAsked$Town;") ∈ lw_all := lw_g (lw_at lw_m2 48 rfl) rfl
theorem q401 : (Jvm.Cond.soleField "LastAsked" "trial") ∈ lw_all := lw_g (lw_at lw_m2 49 rfl) rfl
theorem q402 : (Jvm.Cond.laysFinal "LastAsked" "LastAsked" "night" "LLastAsked$Night;") ∈ lw_all := lw_g (lw_at lw_m2 50 rfl) rfl
theorem q403 : (Jvm.Cond.soleField "LastAsked" "night") ∈ lw_all := lw_g (lw_at lw_m2 51 rfl) rfl
theorem q404 : (Jvm.Cond.laysFinal "LastAsked" "LastAsked" "plans" "LLastAsked$Asks;") ∈ lw_all := lw_g (lw_at lw_m2 52 rfl) rfl
theorem q405 : (Jvm.Cond.soleField "LastAsked" "plans") ∈ lw_all := lw_g (lw_at lw_m2 53 rfl) rfl
theorem q406 : (Jvm.Cond.laysFinal "LastAsked" "LastAsked" "undone" "[LLastAsked$Town;") ∈ lw_all := lw_g (lw_at lw_m2 54 rfl) rfl
theorem q407 : (Jvm.Cond.soleField "LastAsked" "undone") ∈ lw_all := lw_g (lw_at lw_m2 55 rfl) rfl
theorem q408 : (Jvm.Cond.laysFinal "LastAsked" "LastAsked" "images" "[LLastAsked$Town;") ∈ lw_all := lw_g (lw_at lw_m2 56 rfl) rfl
theorem q409 : (Jvm.Cond.soleField "LastAsked" "images") ∈ lw_all := lw_g (lw_at lw_m2 57 rfl) rfl
theorem q410 : (Jvm.Cond.laysFinal "LastAsked" "LastAsked" "often" "[I") ∈ lw_all := lw_g (lw_at lw_m2 58 rfl) rfl
theorem q411 : (Jvm.Cond.soleField "LastAsked" "often") ∈ lw_all := lw_g (lw_at lw_m2 59 rfl) rfl
theorem q412 : (Jvm.Cond.lays "LastAsked" "LastAsked" "firstRest" "I") ∈ lw_all := lw_g (lw_at lw_m2 60 rfl) rfl
theorem q413 : (Jvm.Cond.soleField "LastAsked" "firstRest") ∈ lw_all := lw_g (lw_at lw_m2 61 rfl) rfl
theorem q414 : (Jvm.Cond.laysFinal "LastAsked" "LastAsked" "next" "LLastAsked$Town;") ∈ lw_all := lw_g (lw_at lw_m2 62 rfl) rfl
theorem q415 : (Jvm.Cond.soleField "LastAsked" "next") ∈ lw_all := lw_g (lw_at lw_m2 63 rfl) rfl
theorem q416 : (Jvm.Cond.lays "LastAsked" "LastAsked" "catAt" "I") ∈ lw_all := lw_g (lw_at lw_m2 64 rfl) rfl
theorem q417 : (Jvm.Cond.soleField "LastAsked" "catAt") ∈ lw_all := lw_g (lw_at lw_m2 65 rfl) rfl
theorem q418 : (Jvm.Cond.superclass "LastAsked" "java/lang/Object") ∈ lw_all := lw_g (lw_at lw_m2 66 rfl) rfl
theorem q420 : (Jvm.Cond.instanceMethod ({ cls := "LastAsked", name := "feed", desc := "(IIIII)I" } : Jvm.MethodName)) ∈ lw_all := lw_g (lw_at lw_m2 68 rfl) rfl
theorem q421 : (Jvm.Cond.selects "LastAsked" ({ cls := "LastAsked", name := "feed", desc := "(IIIII)I" } : Jvm.MethodName) ({ cls := "LastAsked", name := "feed", desc := "(IIIII)I" } : Jvm.MethodName)) ∈ lw_all := lw_g (lw_at lw_m2 69 rfl) rfl
theorem q422 : (Jvm.Cond.code ({ cls := "LastAsked", name := "feed", desc := "(IIIII)I" } : Jvm.MethodName) prog_1_method_10_code (6 : Nat) (Option.some Jvm.ClassFile.FieldType.int)) ∈ lw_all := lw_g (lw_at lw_m2 70 rfl) rfl
theorem q423 : (Jvm.Cond.methodLink "LastAsked" (82 : Nat) ({ cls := "LastAsked", name := "bytes", desc := "(I)V" } : Jvm.MethodName)) ∈ lw_all := lw_g (lw_at lw_m2 71 rfl) rfl
theorem q424 : (Jvm.Cond.privateMethod ({ cls := "LastAsked", name := "bytes", desc := "(I)V" } : Jvm.MethodName)) ∈ lw_tbl := lw_at lw_m2 72 rfl
theorem q425 : (Jvm.Cond.instanceMethod ({ cls := "LastAsked", name := "bytes", desc := "(I)V" } : Jvm.MethodName)) ∈ lw_all := lw_g (lw_at lw_m2 73 rfl) rfl
theorem q426 : (Jvm.Cond.code ({ cls := "LastAsked", name := "bytes", desc := "(I)V" } : Jvm.MethodName) prog_1_method_11_code (3 : Nat) (Option.none : Option Jvm.ClassFile.FieldType)) ∈ lw_all := lw_g (lw_at lw_m2 74 rfl) rfl
theorem q428 : (Jvm.Cond.instanceMethod ({ cls := "LastAsked", name := "city", desc := "(I)I" } : Jvm.MethodName)) ∈ lw_all := lw_g (lw_at lw_m2 76 rfl) rfl
theorem q429 : (Jvm.Cond.selects "LastAsked" ({ cls := "LastAsked", name := "city", desc := "(I)I" } : Jvm.MethodName) ({ cls := "LastAsked", name := "city", desc := "(I)I" } : Jvm.MethodName)) ∈ lw_all := lw_g (lw_at lw_m2 77 rfl) rfl
theorem q430 : (Jvm.Cond.codeWith ({ cls := "LastAsked", name := "city", desc := "(I)I" } : Jvm.MethodName) prog_1_method_12_code (3 : Nat) (Option.some Jvm.ClassFile.FieldType.int) [((32 : Nat), (44 : Nat), (47 : Nat), (105 : Nat))]) ∈ lw_all := lw_g (lw_at lw_m2 78 rfl) rfl
theorem q431 : (Jvm.Cond.classLink "LastAsked" (105 : Nat) "LastAsked$Refused") ∈ lw_all := lw_g (lw_at lw_m2 79 rfl) rfl
theorem q432 : (Jvm.Cond.methodLink "LastAsked" (76 : Nat) ({ cls := "LastAsked", name := "anew", desc := "()V" } : Jvm.MethodName)) ∈ lw_all := lw_g (lw_at lw_m2 80 rfl) rfl
theorem q433 : (Jvm.Cond.privateMethod ({ cls := "LastAsked", name := "anew", desc := "()V" } : Jvm.MethodName)) ∈ lw_tbl := lw_at lw_m2 81 rfl
theorem q434 : (Jvm.Cond.instanceMethod ({ cls := "LastAsked", name := "anew", desc := "()V" } : Jvm.MethodName)) ∈ lw_all := lw_g (lw_at lw_m2 82 rfl) rfl
theorem q435 : (Jvm.Cond.code ({ cls := "LastAsked", name := "anew", desc := "()V" } : Jvm.MethodName) prog_1_method_7_code (1 : Nat) (Option.none : Option Jvm.ClassFile.FieldType)) ∈ lw_all := lw_g (lw_at lw_m2 83 rfl) rfl
theorem q436 : (Jvm.Cond.methodLink "LastAsked" (86 : Nat) ({ cls := "LastAsked", name := "in", desc := "(III)Z" } : Jvm.MethodName)) ∈ lw_all := lw_g (lw_at lw_m2 84 rfl) rfl
theorem q437 : (Jvm.Cond.static ({ cls := "LastAsked", name := "in", desc := "(III)Z" } : Jvm.MethodName)) ∈ lw_all := lw_g (lw_at lw_m2 85 rfl) rfl
theorem q438 : (Jvm.Cond.code ({ cls := "LastAsked", name := "in", desc := "(III)Z" } : Jvm.MethodName) prog_1_method_1_code (3 : Nat) (Option.some Jvm.ClassFile.FieldType.boolean)) ∈ lw_all := lw_g (lw_at lw_m2 86 rfl) rfl
theorem q439 : (Jvm.Cond.methodLink "LastAsked" (90 : Nat) ({ cls := "LastAsked", name := "no", desc := "(I)I" } : Jvm.MethodName)) ∈ lw_all := lw_g (lw_at lw_m2 87 rfl) rfl
theorem q440 : (Jvm.Cond.privateMethod ({ cls := "LastAsked", name := "no", desc := "(I)I" } : Jvm.MethodName)) ∈ lw_tbl := lw_at lw_m2 88 rfl
theorem q441 : (Jvm.Cond.instanceMethod ({ cls := "LastAsked", name := "no", desc := "(I)I" } : Jvm.MethodName)) ∈ lw_all := lw_g (lw_at lw_m2 89 rfl) rfl
theorem q442 : (Jvm.Cond.code ({ cls := "LastAsked", name := "no", desc := "(I)I" } : Jvm.MethodName) prog_1_method_8_code (2 : Nat) (Option.some Jvm.ClassFile.FieldType.int)) ∈ lw_all := lw_g (lw_at lw_m2 90 rfl) rfl
theorem q443 : (Jvm.Cond.methodLink "LastAsked" (97 : Nat) ({ cls := "LastAsked$Scanner", name := "read", desc := "(I)LLastAsked$City;" } : Jvm.MethodName)) ∈ lw_all := lw_g (lw_at lw_m2 91 rfl) rfl
theorem q460 : (Jvm.Cond.fieldLink "LastAsked" (144 : Nat) "LastAsked$City" "people" "[LLastAsked$Person;") ∈ lw_all := lw_g (lw_at lw_m2 108 rfl) rfl
theorem q466 : (Jvm.Cond.fieldLink "LastAsked" (266 : Nat) "LastAsked$City" "heardBy" "[I") ∈ lw_all := lw_g (lw_at lw_m2 114 rfl) rfl
theorem q469 : (Jvm.Cond.fieldLink "LastAsked" (269 : Nat) "LastAsked$City" "heardOf" "[I") ∈ lw_all := lw_g (lw_at lw_m2 117 rfl) rfl
theorem q479 : (Jvm.Cond.fieldLink "LastAsked" (355 : Nat) "LastAsked$City" "gives" "I") ∈ lw_all := lw_g (lw_at lw_m2 127 rfl) rfl
theorem q484 : (Jvm.Cond.fieldLink "LastAsked" (121 : Nat) "LastAsked$City" "peopleMany" "I") ∈ lw_all := lw_g (lw_at lw_m2 132 rfl) rfl
theorem q487 : (Jvm.Cond.fieldLink "LastAsked" (358 : Nat) "LastAsked$City" "nearMany" "I") ∈ lw_all := lw_g (lw_at lw_m2 135 rfl) rfl
theorem q489 : (Jvm.Cond.fieldLink "LastAsked" (361 : Nat) "LastAsked$City" "askedMany" "I") ∈ lw_all := lw_g (lw_at lw_m2 137 rfl) rfl
theorem q491 : (Jvm.Cond.fieldLink "LastAsked" (254 : Nat) "LastAsked$City" "heardMany" "I") ∈ lw_all := lw_g (lw_at lw_m2 139 rfl) rfl
theorem q493 : (Jvm.Cond.fieldLink "LastAsked" (364 : Nat) "LastAsked$City" "wentMany" "I") ∈ lw_all := lw_g (lw_at lw_m2 141 rfl) rfl
theorem q757 : (Jvm.Cond.fieldLink "LastAsked" (156 : Nat) "LastAsked$Person" "dies" "I") ∈ lw_all := lw_g (lw_at lw_m3 165 rfl) rfl
theorem q762 : (Jvm.Cond.fieldLink "LastAsked" (159 : Nat) "LastAsked$Person" "near" "I") ∈ lw_all := lw_g (lw_at lw_m3 170 rfl) rfl
theorem q766 : (Jvm.Cond.fieldLink "LastAsked" (260 : Nat) "LastAsked$Person" "went" "I") ∈ lw_all := lw_g (lw_at lw_m3 174 rfl) rfl
theorem q838 : (Jvm.Cond.static ({ cls := "LastAsked", name := "has", desc := "(II)Z" } : Jvm.MethodName)) ∈ lw_all := lw_g (lw_at lw_m4 6 rfl) rfl
theorem q839 : (Jvm.Cond.code ({ cls := "LastAsked", name := "has", desc := "(II)Z" } : Jvm.MethodName) prog_1_method_2_code (2 : Nat) (Option.some Jvm.ClassFile.FieldType.boolean)) ∈ lw_all := lw_g (lw_at lw_m4 7 rfl) rfl
theorem q890 : (Jvm.Cond.methodLink "LastAsked" (111 : Nat) ({ cls := "LastAsked$Town", name := "begin", desc := "(LLastAsked$City;)LLastAsked$Town;" } : Jvm.MethodName)) ∈ lw_all := lw_g (lw_at lw_m4 58 rfl) rfl
theorem q902 : (Jvm.Cond.instanceMethod ({ cls := "LastAsked", name := "fault", desc := "()I" } : Jvm.MethodName)) ∈ lw_all := lw_g (lw_at lw_m4 70 rfl) rfl
theorem q903 : (Jvm.Cond.selects "LastAsked" ({ cls := "LastAsked", name := "fault", desc := "()I" } : Jvm.MethodName) ({ cls := "LastAsked", name := "fault", desc := "()I" } : Jvm.MethodName)) ∈ lw_all := lw_g (lw_at lw_m4 71 rfl) rfl
theorem q904 : (Jvm.Cond.code ({ cls := "LastAsked", name := "fault", desc := "()I" } : Jvm.MethodName) prog_1_method_13_code (1 : Nat) (Option.some Jvm.ClassFile.FieldType.int)) ∈ lw_all := lw_g (lw_at lw_m4 72 rfl) rfl
theorem q906 : (Jvm.Cond.instanceMethod ({ cls := "LastAsked", name := "where", desc := "()I" } : Jvm.MethodName)) ∈ lw_all := lw_g (lw_at lw_m4 74 rfl) rfl
theorem q907 : (Jvm.Cond.selects "LastAsked" ({ cls := "LastAsked", name := "where", desc := "()I" } : Jvm.MethodName) ({ cls := "LastAsked", name := "where", desc := "()I" } : Jvm.MethodName)) ∈ lw_all := lw_g (lw_at lw_m4 75 rfl) rfl
theorem q908 : (Jvm.Cond.code ({ cls := "LastAsked", name := "where", desc := "()I" } : Jvm.MethodName) prog_1_method_14_code (1 : Nat) (Option.some Jvm.ClassFile.FieldType.int)) ∈ lw_all := lw_g (lw_at lw_m4 76 rfl) rfl
theorem q910 : (Jvm.Cond.instanceMethod ({ cls := "LastAsked", name := "person", desc := "(II)I" } : Jvm.MethodName)) ∈ lw_all := lw_g (lw_at lw_m4 78 rfl) rfl
theorem q911 : (Jvm.Cond.selects "LastAsked" ({ cls := "LastAsked", name := "person", desc := "(II)I" } : Jvm.MethodName) ({ cls := "LastAsked", name := "person", desc := "(II)I" } : Jvm.MethodName)) ∈ lw_all := lw_g (lw_at lw_m4 79 rfl) rfl
theorem q912 : (Jvm.Cond.code ({ cls := "LastAsked", name := "person", desc := "(II)I" } : Jvm.MethodName) prog_1_method_22_code (3 : Nat) (Option.some Jvm.ClassFile.FieldType.int)) ∈ lw_all := lw_g (lw_at lw_m4 80 rfl) rfl
theorem q913 : (Jvm.Cond.methodLink "LastAsked" (126 : Nat) ({ cls := "LastAsked", name := "isPerson", desc := "(I)Z" } : Jvm.MethodName)) ∈ lw_all := lw_g (lw_at lw_m4 81 rfl) rfl
theorem q914 : (Jvm.Cond.privateMethod ({ cls := "LastAsked", name := "isPerson", desc := "(I)Z" } : Jvm.MethodName)) ∈ lw_tbl := lw_at lw_m4 82 rfl
theorem q915 : (Jvm.Cond.instanceMethod ({ cls := "LastAsked", name := "isPerson", desc := "(I)Z" } : Jvm.MethodName)) ∈ lw_all := lw_g (lw_at lw_m4 83 rfl) rfl
theorem q916 : (Jvm.Cond.code ({ cls := "LastAsked", name := "isPerson", desc := "(I)Z" } : Jvm.MethodName) prog_1_method_15_code (2 : Nat) (Option.some Jvm.ClassFile.FieldType.boolean)) ∈ lw_all := lw_g (lw_at lw_m4 84 rfl) rfl
theorem q917 : (Jvm.Cond.methodLink "LastAsked" (148 : Nat) ({ cls := "LastAsked$Person", name := "kind", desc := "()I" } : Jvm.MethodName)) ∈ lw_all := lw_g (lw_at lw_m4 85 rfl) rfl
theorem q934 : (Jvm.Cond.methodLink "LastAsked" (130 : Nat) ({ cls := "LastAsked$Town", name := "isLiving", desc := "(I)Z" } : Jvm.MethodName)) ∈ lw_all := lw_g (lw_at lw_m4 102 rfl) rfl
theorem q939 : (Jvm.Cond.methodLink "LastAsked" (162 : Nat) ({ cls := "LastAsked", name := "askable", desc := "(I)I" } : Jvm.MethodName)) ∈ lw_all := lw_g (lw_at lw_m4 107 rfl) rfl
theorem q940 : (Jvm.Cond.privateMethod ({ cls := "LastAsked", name := "askable", desc := "(I)I" } : Jvm.MethodName)) ∈ lw_tbl := lw_at lw_m4 108 rfl
theorem q941 : (Jvm.Cond.instanceMethod ({ cls := "LastAsked", name := "askable", desc := "(I)I" } : Jvm.MethodName)) ∈ lw_all := lw_g (lw_at lw_m4 109 rfl) rfl
theorem q942 : (Jvm.Cond.code ({ cls := "LastAsked", name := "askable", desc := "(I)I" } : Jvm.MethodName) prog_1_method_20_code (4 : Nat) (Option.some Jvm.ClassFile.FieldType.int)) ∈ lw_all := lw_g (lw_at lw_m4 110 rfl) rfl
theorem q943 : (Jvm.Cond.methodLink "LastAsked" (140 : Nat) ({ cls := "LastAsked$Town", name := "canAsk", desc := "(II)Z" } : Jvm.MethodName)) ∈ lw_all := lw_g (lw_at lw_m4 111 rfl) rfl
theorem q950 : (Jvm.Cond.methodLink "LastAsked" (165 : Nat) ({ cls := "LastAsked", name := "askers", desc := "(I)I" } : Jvm.MethodName)) ∈ lw_all := lw_g (lw_at lw_m4 118 rfl) rfl
theorem q951 : (Jvm.Cond.privateMethod ({ cls := "LastAsked", name := "askers", desc := "(I)I" } : Jvm.MethodName)) ∈ lw_tbl := lw_at lw_m4 119 rfl
theorem q952 : (Jvm.Cond.instanceMethod ({ cls := "LastAsked", name := "askers", desc := "(I)I" } : Jvm.MethodName)) ∈ lw_all := lw_g (lw_at lw_m4 120 rfl) rfl
theorem q953 : (Jvm.Cond.code ({ cls := "LastAsked", name := "askers", desc := "(I)I" } : Jvm.MethodName) prog_1_method_21_code (4 : Nat) (Option.some Jvm.ClassFile.FieldType.int)) ∈ lw_all := lw_g (lw_at lw_m4 121 rfl) rfl
theorem q955 : (Jvm.Cond.instanceMethod ({ cls := "LastAsked", name := "register", desc := "(II)I" } : Jvm.MethodName)) ∈ lw_all := lw_g (lw_at lw_m4 123 rfl) rfl
theorem q956 : (Jvm.Cond.selects "LastAsked" ({ cls := "LastAsked", name := "register", desc := "(II)I" } : Jvm.MethodName) ({ cls := "LastAsked", name := "register", desc := "(II)I" } : Jvm.MethodName)) ∈ lw_all := lw_g (lw_at lw_m4 124 rfl) rfl
theorem q957 : (Jvm.Cond.code ({ cls := "LastAsked", name := "register", desc := "(II)I" } : Jvm.MethodName) prog_1_method_23_code (3 : Nat) (Option.some Jvm.ClassFile.FieldType.int)) ∈ lw_all := lw_g (lw_at lw_m4 125 rfl) rfl
theorem q958 : (Jvm.Cond.methodLink "LastAsked" (168 : Nat) ({ cls := "LastAsked", name := "areTwo", desc := "(II)Z" } : Jvm.MethodName)) ∈ lw_all := lw_g (lw_at lw_m4 126 rfl) rfl
theorem q959 : (Jvm.Cond.privateMethod ({ cls := "LastAsked", name := "areTwo", desc := "(II)Z" } : Jvm.MethodName)) ∈ lw_tbl := lw_at lw_m4 127 rfl
theorem q960 : (Jvm.Cond.instanceMethod ({ cls := "LastAsked", name := "areTwo", desc := "(II)Z" } : Jvm.MethodName)) ∈ lw_all := lw_g (lw_at lw_m4 128 rfl) rfl
theorem q961 : (Jvm.Cond.code ({ cls := "LastAsked", name := "areTwo", desc := "(II)Z" } : Jvm.MethodName) prog_1_method_16_code (3 : Nat) (Option.some Jvm.ClassFile.FieldType.boolean)) ∈ lw_all := lw_g (lw_at lw_m4 129 rfl) rfl
theorem q962 : (Jvm.Cond.methodLink "LastAsked" (171 : Nat) ({ cls := "LastAsked$Town", name := "hourOf", desc := "(II)I" } : Jvm.MethodName)) ∈ lw_all := lw_g (lw_at lw_m4 130 rfl) rfl
theorem q967 : (Jvm.Cond.instanceMethod ({ cls := "LastAsked", name := "heir", desc := "(I)I" } : Jvm.MethodName)) ∈ lw_all := lw_g (lw_at lw_m4 135 rfl) rfl
theorem q968 : (Jvm.Cond.selects "LastAsked" ({ cls := "LastAsked", name := "heir", desc := "(I)I" } : Jvm.MethodName) ({ cls := "LastAsked", name := "heir", desc := "(I)I" } : Jvm.MethodName)) ∈ lw_all := lw_g (lw_at lw_m4 136 rfl) rfl
theorem q969 : (Jvm.Cond.code ({ cls := "LastAsked", name := "heir", desc := "(I)I" } : Jvm.MethodName) prog_1_method_24_code (3 : Nat) (Option.some Jvm.ClassFile.FieldType.int)) ∈ lw_all := lw_g (lw_at lw_m4 137 rfl) rfl
theorem q970 : (Jvm.Cond.methodLink "LastAsked" (175 : Nat) ({ cls := "LastAsked", name := "livesWhy", desc := "(I)I" } : Jvm.MethodName)) ∈ lw_all := lw_g (lw_at lw_m4 138 rfl) rfl
theorem q971 : (Jvm.Cond.privateMethod ({ cls := "LastAsked", name := "livesWhy", desc := "(I)I" } : Jvm.MethodName)) ∈ lw_tbl := lw_at lw_m4 139 rfl
theorem q972 : (Jvm.Cond.instanceMethod ({ cls := "LastAsked", name := "livesWhy", desc := "(I)I" } : Jvm.MethodName)) ∈ lw_all := lw_g (lw_at lw_m4 140 rfl) rfl
theorem q973 : (Jvm.Cond.code ({ cls := "LastAsked", name := "livesWhy", desc := "(I)I" } : Jvm.MethodName) prog_1_method_18_code (2 : Nat) (Option.some Jvm.ClassFile.FieldType.int)) ∈ lw_all := lw_g (lw_at lw_m4 141 rfl) rfl
theorem q974 : (Jvm.Cond.methodLink "LastAsked" (178 : Nat) ({ cls := "LastAsked$Town", name := "heir", desc := "(I)I" } : Jvm.MethodName)) ∈ lw_all := lw_g (lw_at lw_m4 142 rfl) rfl
theorem q980 : (Jvm.Cond.instanceMethod ({ cls := "LastAsked", name := "heirTo", desc := "(I)I" } : Jvm.MethodName)) ∈ lw_all := lw_g (lw_at lw_m4 148 rfl) rfl
theorem q981 : (Jvm.Cond.selects "LastAsked" ({ cls := "LastAsked", name := "heirTo", desc := "(I)I" } : Jvm.MethodName) ({ cls := "LastAsked", name := "heirTo", desc := "(I)I" } : Jvm.MethodName)) ∈ lw_all := lw_g (lw_at lw_m4 149 rfl) rfl
theorem q982 : (Jvm.Cond.code ({ cls := "LastAsked", name := "heirTo", desc := "(I)I" } : Jvm.MethodName) prog_1_method_26_code (2 : Nat) (Option.some Jvm.ClassFile.FieldType.int)) ∈ lw_all := lw_g (lw_at lw_m4 150 rfl) rfl
theorem q983 : (Jvm.Cond.methodLink "LastAsked" (181 : Nat) ({ cls := "LastAsked", name := "heirTos", desc := "(I)I" } : Jvm.MethodName)) ∈ lw_all := lw_g (lw_at lw_m4 151 rfl) rfl
theorem q984 : (Jvm.Cond.privateMethod ({ cls := "LastAsked", name := "heirTos", desc := "(I)I" } : Jvm.MethodName)) ∈ lw_tbl := lw_at lw_m4 152 rfl
theorem q985 : (Jvm.Cond.instanceMethod ({ cls := "LastAsked", name := "heirTos", desc := "(I)I" } : Jvm.MethodName)) ∈ lw_all := lw_g (lw_at lw_m4 153 rfl) rfl
theorem q986 : (Jvm.Cond.code ({ cls := "LastAsked", name := "heirTos", desc := "(I)I" } : Jvm.MethodName) prog_1_method_25_code (4 : Nat) (Option.some Jvm.ClassFile.FieldType.int)) ∈ lw_all := lw_g (lw_at lw_m4 154 rfl) rfl
theorem q988 : (Jvm.Cond.instanceMethod ({ cls := "LastAsked", name := "hopes", desc := "(I)I" } : Jvm.MethodName)) ∈ lw_all := lw_g (lw_at lw_m4 156 rfl) rfl
theorem q989 : (Jvm.Cond.selects "LastAsked" ({ cls := "LastAsked", name := "hopes", desc := "(I)I" } : Jvm.MethodName) ({ cls := "LastAsked", name := "hopes", desc := "(I)I" } : Jvm.MethodName)) ∈ lw_all := lw_g (lw_at lw_m4 157 rfl) rfl
theorem q990 : (Jvm.Cond.code ({ cls := "LastAsked", name := "hopes", desc := "(I)I" } : Jvm.MethodName) prog_1_method_27_code (3 : Nat) (Option.some Jvm.ClassFile.FieldType.int)) ∈ lw_all := lw_g (lw_at lw_m4 158 rfl) rfl
theorem q991 : (Jvm.Cond.methodLink "LastAsked" (184 : Nat) ({ cls := "LastAsked$Town", name := "dies", desc := "(LLastAsked$Town;I)LLastAsked$Town;" } : Jvm.MethodName)) ∈ lw_all := lw_g (lw_at lw_m4 159 rfl) rfl
theorem q1005 : (Jvm.Cond.instanceMethod ({ cls := "LastAsked", name := "cat", desc := "()I" } : Jvm.MethodName)) ∈ lw_all := lw_g (lw_at lw_m4 173 rfl) rfl
theorem q1006 : (Jvm.Cond.selects "LastAsked" ({ cls := "LastAsked", name := "cat", desc := "()I" } : Jvm.MethodName) ({ cls := "LastAsked", name := "cat", desc := "()I" } : Jvm.MethodName)) ∈ lw_all := lw_g (lw_at lw_m4 174 rfl) rfl
theorem q1007 : (Jvm.Cond.code ({ cls := "LastAsked", name := "cat", desc := "()I" } : Jvm.MethodName) prog_1_method_28_code (1 : Nat) (Option.some Jvm.ClassFile.FieldType.int)) ∈ lw_all := lw_g (lw_at lw_m4 175 rfl) rfl
theorem q1009 : (Jvm.Cond.instanceMethod ({ cls := "LastAsked", name := "richest", desc := "()I" } : Jvm.MethodName)) ∈ lw_all := lw_g (lw_at lw_m4 177 rfl) rfl
theorem q1010 : (Jvm.Cond.selects "LastAsked" ({ cls := "LastAsked", name := "richest", desc := "()I" } : Jvm.MethodName) ({ cls := "LastAsked", name := "richest", desc := "()I" } : Jvm.MethodName)) ∈ lw_all := lw_g (lw_at lw_m4 178 rfl) rfl
theorem q1011 : (Jvm.Cond.code ({ cls := "LastAsked", name := "richest", desc := "()I" } : Jvm.MethodName) prog_1_method_29_code (3 : Nat) (Option.some Jvm.ClassFile.FieldType.int)) ∈ lw_all := lw_g (lw_at lw_m4 179 rfl) rfl
theorem q1013 : (Jvm.Cond.instanceMethod ({ cls := "LastAsked", name := "goesTo", desc := "(II)I" } : Jvm.MethodName)) ∈ lw_all := lw_g (lw_at lw_m4 181 rfl) rfl
theorem q1014 : (Jvm.Cond.selects "LastAsked" ({ cls := "LastAsked", name := "goesTo", desc := "(II)I" } : Jvm.MethodName) ({ cls := "LastAsked", name := "goesTo", desc := "(II)I" } : Jvm.MethodName)) ∈ lw_all := lw_g (lw_at lw_m4 182 rfl) rfl
theorem q1015 : (Jvm.Cond.code ({ cls := "LastAsked", name := "goesTo", desc := "(II)I" } : Jvm.MethodName) prog_1_method_30_code (4 : Nat) (Option.some Jvm.ClassFile.FieldType.int)) ∈ lw_all := lw_g (lw_at lw_m4 183 rfl) rfl
theorem q1016 : (Jvm.Cond.methodLink "LastAsked" (190 : Nat) ({ cls := "LastAsked", name := "isSet", desc := "(I)Z" } : Jvm.MethodName)) ∈ lw_all := lw_g (lw_at lw_m4 184 rfl) rfl
theorem q1017 : (Jvm.Cond.privateMethod ({ cls := "LastAsked", name := "isSet", desc := "(I)Z" } : Jvm.MethodName)) ∈ lw_tbl := lw_at lw_m4 185 rfl
theorem q1018 : (Jvm.Cond.instanceMethod ({ cls := "LastAsked", name := "isSet", desc := "(I)Z" } : Jvm.MethodName)) ∈ lw_all := lw_g (lw_at lw_m4 186 rfl) rfl
theorem q1019 : (Jvm.Cond.code ({ cls := "LastAsked", name := "isSet", desc := "(I)Z" } : Jvm.MethodName) prog_1_method_19_code (2 : Nat) (Option.some Jvm.ClassFile.FieldType.boolean)) ∈ lw_all := lw_g (lw_at lw_m4 187 rfl) rfl
theorem q1020 : (Jvm.Cond.methodLink "LastAsked" (133 : Nat) ({ cls := "LastAsked$City", name := "all", desc := "()I" } : Jvm.MethodName)) ∈ lw_all := lw_g (lw_at lw_m4 188 rfl) rfl
theorem q1021 : (Jvm.Cond.methodLink "LastAsked" (193 : Nat) ({ cls := "LastAsked", name := "has", desc := "(II)Z" } : Jvm.MethodName)) ∈ lw_all := lw_g (lw_at lw_m4 189 rfl) rfl
theorem q1022 : (Jvm.Cond.methodLink "LastAsked" (195 : Nat) ({ cls := "LastAsked", name := "numberWhy", desc := "(ZZ)I" } : Jvm.MethodName)) ∈ lw_all := lw_g (lw_at lw_m4 190 rfl) rfl
theorem q1023 : (Jvm.Cond.privateMethod ({ cls := "LastAsked", name := "numberWhy", desc := "(ZZ)I" } : Jvm.MethodName)) ∈ lw_tbl := lw_at lw_m4 191 rfl
theorem q1024 : (Jvm.Cond.instanceMethod ({ cls := "LastAsked", name := "numberWhy", desc := "(ZZ)I" } : Jvm.MethodName)) ∈ lw_all := lw_g (lw_at lw_m4 192 rfl) rfl
theorem q1025 : (Jvm.Cond.code ({ cls := "LastAsked", name := "numberWhy", desc := "(ZZ)I" } : Jvm.MethodName) prog_1_method_17_code (3 : Nat) (Option.some Jvm.ClassFile.FieldType.int)) ∈ lw_all := lw_g (lw_at lw_m4 193 rfl) rfl
theorem q1026 : (Jvm.Cond.methodLink "LastAsked" (199 : Nat) ({ cls := "LastAsked$Town", name := "goesTo", desc := "(II)I" } : Jvm.MethodName)) ∈ lw_all := lw_g (lw_at lw_m4 194 rfl) rfl
theorem q1028 : (Jvm.Cond.instanceMethod ({ cls := "LastAsked", name := "hasThen", desc := "(II)I" } : Jvm.MethodName)) ∈ lw_all := lw_g (lw_at lw_m4 196 rfl) rfl
theorem q1029 : (Jvm.Cond.selects "LastAsked" ({ cls := "LastAsked", name := "hasThen", desc := "(II)I" } : Jvm.MethodName) ({ cls := "LastAsked", name := "hasThen", desc := "(II)I" } : Jvm.MethodName)) ∈ lw_all := lw_g (lw_at lw_m4 197 rfl) rfl
theorem q1030 : (Jvm.Cond.code ({ cls := "LastAsked", name := "hasThen", desc := "(II)I" } : Jvm.MethodName) prog_1_method_31_code (4 : Nat) (Option.some Jvm.ClassFile.FieldType.int)) ∈ lw_all := lw_g (lw_at lw_m4 198 rfl) rfl
theorem q1032 : (Jvm.Cond.instanceMethod ({ cls := "LastAsked", name := "catThen", desc := "(I)I" } : Jvm.MethodName)) ∈ lw_all := lw_g (lw_at lw_m4 200 rfl) rfl
theorem q1033 : (Jvm.Cond.selects "LastAsked" ({ cls := "LastAsked", name := "catThen", desc := "(I)I" } : Jvm.MethodName) ({ cls := "LastAsked", name := "catThen", desc := "(I)I" } : Jvm.MethodName)) ∈ lw_all := lw_g (lw_at lw_m4 201 rfl) rfl
theorem q1034 : (Jvm.Cond.code ({ cls := "LastAsked", name := "catThen", desc := "(I)I" } : Jvm.MethodName) prog_1_method_32_code (3 : Nat) (Option.some Jvm.ClassFile.FieldType.int)) ∈ lw_all := lw_g (lw_at lw_m4 202 rfl) rfl
theorem q1036 : (Jvm.Cond.instanceMethod ({ cls := "LastAsked", name := "rounds", desc := "()I" } : Jvm.MethodName)) ∈ lw_all := lw_g (lw_at lw_m4 204 rfl) rfl
theorem q1037 : (Jvm.Cond.selects "LastAsked" ({ cls := "LastAsked", name := "rounds", desc := "()I" } : Jvm.MethodName) ({ cls := "LastAsked", name := "rounds", desc := "()I" } : Jvm.MethodName)) ∈ lw_all := lw_g (lw_at lw_m4 205 rfl) rfl
theorem q1038 : (Jvm.Cond.code ({ cls := "LastAsked", name := "rounds", desc := "()I" } : Jvm.MethodName) prog_1_method_34_code (3 : Nat) (Option.some Jvm.ClassFile.FieldType.int)) ∈ lw_all := lw_g (lw_at lw_m4 206 rfl) rfl
theorem q1039 : (Jvm.Cond.methodLink "LastAsked" (202 : Nat) ({ cls := "LastAsked", name := "comesRound", desc := "(I)Z" } : Jvm.MethodName)) ∈ lw_all := lw_g (lw_at lw_m4 207 rfl) rfl
theorem q1040 : (Jvm.Cond.privateMethod ({ cls := "LastAsked", name := "comesRound", desc := "(I)Z" } : Jvm.MethodName)) ∈ lw_tbl := lw_at lw_m4 208 rfl
theorem q1041 : (Jvm.Cond.instanceMethod ({ cls := "LastAsked", name := "comesRound", desc := "(I)Z" } : Jvm.MethodName)) ∈ lw_all := lw_g (lw_at lw_m4 209 rfl) rfl
theorem q1042 : (Jvm.Cond.code ({ cls := "LastAsked", name := "comesRound", desc := "(I)Z" } : Jvm.MethodName) prog_1_method_33_code (4 : Nat) (Option.some Jvm.ClassFile.FieldType.boolean)) ∈ lw_all := lw_g (lw_at lw_m4 210 rfl) rfl
theorem q1044 : (Jvm.Cond.instanceMethod ({ cls := "LastAsked", name := "worthiest", desc := "()I" } : Jvm.MethodName)) ∈ lw_all := lw_g (lw_at lw_m4 212 rfl) rfl
theorem q1045 : (Jvm.Cond.selects "LastAsked" ({ cls := "LastAsked", name := "worthiest", desc := "()I" } : Jvm.MethodName) ({ cls := "LastAsked", name := "worthiest", desc := "()I" } : Jvm.MethodName)) ∈ lw_all := lw_g (lw_at lw_m4 213 rfl) rfl
theorem q1046 : (Jvm.Cond.code ({ cls := "LastAsked", name := "worthiest", desc := "()I" } : Jvm.MethodName) prog_1_method_35_code (3 : Nat) (Option.some Jvm.ClassFile.FieldType.int)) ∈ lw_all := lw_g (lw_at lw_m4 214 rfl) rfl
theorem q1048 : (Jvm.Cond.instanceMethod ({ cls := "LastAsked", name := "plot", desc := "(II)I" } : Jvm.MethodName)) ∈ lw_all := lw_g (lw_at lw_m4 216 rfl) rfl
theorem q1049 : (Jvm.Cond.selects "LastAsked" ({ cls := "LastAsked", name := "plot", desc := "(II)I" } : Jvm.MethodName) ({ cls := "LastAsked", name := "plot", desc := "(II)I" } : Jvm.MethodName)) ∈ lw_all := lw_g (lw_at lw_m4 217 rfl) rfl
theorem q1050 : (Jvm.Cond.code ({ cls := "LastAsked", name := "plot", desc := "(II)I" } : Jvm.MethodName) prog_1_method_36_code (5 : Nat) (Option.some Jvm.ClassFile.FieldType.int)) ∈ lw_all := lw_g (lw_at lw_m4 218 rfl) rfl
theorem q1051 : (Jvm.Cond.methodLink "LastAsked" (205 : Nat) ({ cls := "LastAsked", name := "ones", desc := "(I)I" } : Jvm.MethodName)) ∈ lw_all := lw_g (lw_at lw_m4 219 rfl) rfl
theorem q1052 : (Jvm.Cond.static ({ cls := "LastAsked", name := "ones", desc := "(I)I" } : Jvm.MethodName)) ∈ lw_all := lw_g (lw_at lw_m4 220 rfl) rfl
theorem q1053 : (Jvm.Cond.code ({ cls := "LastAsked", name := "ones", desc := "(I)I" } : Jvm.MethodName) prog_1_method_3_code (3 : Nat) (Option.some Jvm.ClassFile.FieldType.int)) ∈ lw_all := lw_g (lw_at lw_m4 221 rfl) rfl
theorem q1055 : (Jvm.Cond.instanceMethod ({ cls := "LastAsked", name := "mean", desc := "(IZ)J" } : Jvm.MethodName)) ∈ lw_all := lw_g (lw_at lw_m4 223 rfl) rfl
theorem q1056 : (Jvm.Cond.selects "LastAsked" ({ cls := "LastAsked", name := "mean", desc := "(IZ)J" } : Jvm.MethodName) ({ cls := "LastAsked", name := "mean", desc := "(IZ)J" } : Jvm.MethodName)) ∈ lw_all := lw_g (lw_at lw_m4 224 rfl) rfl
theorem q1057 : (Jvm.Cond.code ({ cls := "LastAsked", name := "mean", desc := "(IZ)J" } : Jvm.MethodName) prog_1_method_37_code (5 : Nat) (Option.some Jvm.ClassFile.FieldType.long)) ∈ lw_all := lw_g (lw_at lw_m4 225 rfl) rfl
theorem q1058 : (Jvm.Cond.methodLink "LastAsked" (208 : Nat) ({ cls := "LastAsked$Night", name := "sum", desc := "(LLastAsked$Town;I)J" } : Jvm.MethodName)) ∈ lw_all := lw_g (lw_at lw_m4 226 rfl) rfl
theorem q1073 : (Jvm.Cond.methodLink "LastAsked" (215 : Nat) ({ cls := "LastAsked", name := "lowest", desc := "(JJZ)J" } : Jvm.MethodName)) ∈ lw_all := lw_g (lw_at lw_m5 1 rfl) rfl
theorem q1074 : (Jvm.Cond.static ({ cls := "LastAsked", name := "lowest", desc := "(JJZ)J" } : Jvm.MethodName)) ∈ lw_all := lw_g (lw_at lw_m5 2 rfl) rfl
theorem q1075 : (Jvm.Cond.code ({ cls := "LastAsked", name := "lowest", desc := "(JJZ)J" } : Jvm.MethodName) prog_1_method_5_code (5 : Nat) (Option.some Jvm.ClassFile.FieldType.long)) ∈ lw_all := lw_g (lw_at lw_m5 3 rfl) rfl
theorem q1076 : (Jvm.Cond.methodLink "LastAsked" (1 : Nat) ({ cls := "LastAsked", name := "dividing", desc := "(JJ)J" } : Jvm.MethodName)) ∈ lw_all := lw_g (lw_at lw_m5 4 rfl) rfl
theorem q1077 : (Jvm.Cond.static ({ cls := "LastAsked", name := "dividing", desc := "(JJ)J" } : Jvm.MethodName)) ∈ lw_all := lw_g (lw_at lw_m5 5 rfl) rfl
theorem q1078 : (Jvm.Cond.code ({ cls := "LastAsked", name := "dividing", desc := "(JJ)J" } : Jvm.MethodName) prog_1_method_4_code (4 : Nat) (Option.some Jvm.ClassFile.FieldType.long)) ∈ lw_all := lw_g (lw_at lw_m5 6 rfl) rfl
theorem q1080 : (Jvm.Cond.instanceMethod ({ cls := "LastAsked", name := "odds", desc := "(IIZ)J" } : Jvm.MethodName)) ∈ lw_all := lw_g (lw_at lw_m5 8 rfl) rfl
theorem q1081 : (Jvm.Cond.selects "LastAsked" ({ cls := "LastAsked", name := "odds", desc := "(IIZ)J" } : Jvm.MethodName) ({ cls := "LastAsked", name := "odds", desc := "(IIZ)J" } : Jvm.MethodName)) ∈ lw_all := lw_g (lw_at lw_m5 9 rfl) rfl
theorem q1082 : (Jvm.Cond.code ({ cls := "LastAsked", name := "odds", desc := "(IIZ)J" } : Jvm.MethodName) prog_1_method_38_code (7 : Nat) (Option.some Jvm.ClassFile.FieldType.long)) ∈ lw_all := lw_g (lw_at lw_m5 10 rfl) rfl
theorem q1083 : (Jvm.Cond.methodLink "LastAsked" (219 : Nat) ({ cls := "LastAsked$Night", name := "atLeast", desc := "(LLastAsked$Town;II)J" } : Jvm.MethodName)) ∈ lw_all := lw_g (lw_at lw_m5 11 rfl) rfl
theorem q1088 : (Jvm.Cond.instanceMethod ({ cls := "LastAsked", name := "passes", desc := "(IIZ)J" } : Jvm.MethodName)) ∈ lw_all := lw_g (lw_at lw_m5 16 rfl) rfl
theorem q1089 : (Jvm.Cond.selects "LastAsked" ({ cls := "LastAsked", name := "passes", desc := "(IIZ)J" } : Jvm.MethodName) ({ cls := "LastAsked", name := "passes", desc := "(IIZ)J" } : Jvm.MethodName)) ∈ lw_all := lw_g (lw_at lw_m5 17 rfl) rfl
theorem q1090 : (Jvm.Cond.code ({ cls := "LastAsked", name := "passes", desc := "(IIZ)J" } : Jvm.MethodName) prog_1_method_39_code (6 : Nat) (Option.some Jvm.ClassFile.FieldType.long)) ∈ lw_all := lw_g (lw_at lw_m5 18 rfl) rfl
theorem q1091 : (Jvm.Cond.methodLink "LastAsked" (223 : Nat) ({ cls := "LastAsked$Night", name := "passing", desc := "(LLastAsked$Town;II)J" } : Jvm.MethodName)) ∈ lw_all := lw_g (lw_at lw_m5 19 rfl) rfl
theorem q1097 : (Jvm.Cond.instanceMethod ({ cls := "LastAsked", name := "catMean", desc := "(Z)J" } : Jvm.MethodName)) ∈ lw_all := lw_g (lw_at lw_m5 25 rfl) rfl
theorem q1098 : (Jvm.Cond.selects "LastAsked" ({ cls := "LastAsked", name := "catMean", desc := "(Z)J" } : Jvm.MethodName) ({ cls := "LastAsked", name := "catMean", desc := "(Z)J" } : Jvm.MethodName)) ∈ lw_all := lw_g (lw_at lw_m5 26 rfl) rfl
theorem q1099 : (Jvm.Cond.code ({ cls := "LastAsked", name := "catMean", desc := "(Z)J" } : Jvm.MethodName) prog_1_method_40_code (4 : Nat) (Option.some Jvm.ClassFile.FieldType.long)) ∈ lw_all := lw_g (lw_at lw_m5 27 rfl) rfl
theorem q1101 : (Jvm.Cond.instanceMethod ({ cls := "LastAsked", name := "best", desc := "(II)I" } : Jvm.MethodName)) ∈ lw_all := lw_g (lw_at lw_m5 29 rfl) rfl
theorem q1102 : (Jvm.Cond.selects "LastAsked" ({ cls := "LastAsked", name := "best", desc := "(II)I" } : Jvm.MethodName) ({ cls := "LastAsked", name := "best", desc := "(II)I" } : Jvm.MethodName)) ∈ lw_all := lw_g (lw_at lw_m5 30 rfl) rfl
theorem q1103 : (Jvm.Cond.code ({ cls := "LastAsked", name := "best", desc := "(II)I" } : Jvm.MethodName) prog_1_method_42_code (4 : Nat) (Option.some Jvm.ClassFile.FieldType.int)) ∈ lw_all := lw_g (lw_at lw_m5 31 rfl) rfl
theorem q1104 : (Jvm.Cond.methodLink "LastAsked" (226 : Nat) ({ cls := "LastAsked", name := "planWhy", desc := "(IZ)I" } : Jvm.MethodName)) ∈ lw_all := lw_g (lw_at lw_m5 32 rfl) rfl
theorem q1105 : (Jvm.Cond.privateMethod ({ cls := "LastAsked", name := "planWhy", desc := "(IZ)I" } : Jvm.MethodName)) ∈ lw_tbl := lw_at lw_m5 33 rfl
theorem q1106 : (Jvm.Cond.instanceMethod ({ cls := "LastAsked", name := "planWhy", desc := "(IZ)I" } : Jvm.MethodName)) ∈ lw_all := lw_g (lw_at lw_m5 34 rfl) rfl
theorem q1107 : (Jvm.Cond.code ({ cls := "LastAsked", name := "planWhy", desc := "(IZ)I" } : Jvm.MethodName) prog_1_method_41_code (3 : Nat) (Option.some Jvm.ClassFile.FieldType.int)) ∈ lw_all := lw_g (lw_at lw_m5 35 rfl) rfl
theorem q1108 : (Jvm.Cond.methodLink "LastAsked" (230 : Nat) ({ cls := "LastAsked$Asks", name := "best", desc := "(LLastAsked$Town;II)LLastAsked$Asks;" } : Jvm.MethodName)) ∈ lw_all := lw_g (lw_at lw_m5 36 rfl) rfl
theorem q1131 : (Jvm.Cond.instanceMethod ({ cls := "LastAsked", name := "bestMean", desc := "(IIZ)J" } : Jvm.MethodName)) ∈ lw_all := lw_g (lw_at lw_m5 59 rfl) rfl
theorem q1132 : (Jvm.Cond.selects "LastAsked" ({ cls := "LastAsked", name := "bestMean", desc := "(IIZ)J" } : Jvm.MethodName) ({ cls := "LastAsked", name := "bestMean", desc := "(IIZ)J" } : Jvm.MethodName)) ∈ lw_all := lw_g (lw_at lw_m5 60 rfl) rfl
theorem q1133 : (Jvm.Cond.code ({ cls := "LastAsked", name := "bestMean", desc := "(IIZ)J" } : Jvm.MethodName) prog_1_method_43_code (7 : Nat) (Option.some Jvm.ClassFile.FieldType.long)) ∈ lw_all := lw_g (lw_at lw_m5 61 rfl) rfl
theorem q1135 : (Jvm.Cond.instanceMethod ({ cls := "LastAsked", name := "tour", desc := "(II)I" } : Jvm.MethodName)) ∈ lw_all := lw_g (lw_at lw_m5 63 rfl) rfl
theorem q1136 : (Jvm.Cond.selects "LastAsked" ({ cls := "LastAsked", name := "tour", desc := "(II)I" } : Jvm.MethodName) ({ cls := "LastAsked", name := "tour", desc := "(II)I" } : Jvm.MethodName)) ∈ lw_all := lw_g (lw_at lw_m5 64 rfl) rfl
theorem q1137 : (Jvm.Cond.code ({ cls := "LastAsked", name := "tour", desc := "(II)I" } : Jvm.MethodName) prog_1_method_44_code (4 : Nat) (Option.some Jvm.ClassFile.FieldType.int)) ∈ lw_all := lw_g (lw_at lw_m5 65 rfl) rfl
theorem q1138 : (Jvm.Cond.methodLink "LastAsked" (240 : Nat) ({ cls := "LastAsked$Asks", name := "tour", desc := "(LLastAsked$Town;II)LLastAsked$Asks;" } : Jvm.MethodName)) ∈ lw_all := lw_g (lw_at lw_m5 66 rfl) rfl
theorem q1158 : (Jvm.Cond.instanceMethod ({ cls := "LastAsked", name := "tourHours", desc := "(II)I" } : Jvm.MethodName)) ∈ lw_all := lw_g (lw_at lw_m5 86 rfl) rfl
theorem q1159 : (Jvm.Cond.selects "LastAsked" ({ cls := "LastAsked", name := "tourHours", desc := "(II)I" } : Jvm.MethodName) ({ cls := "LastAsked", name := "tourHours", desc := "(II)I" } : Jvm.MethodName)) ∈ lw_all := lw_g (lw_at lw_m5 87 rfl) rfl
theorem q1160 : (Jvm.Cond.code ({ cls := "LastAsked", name := "tourHours", desc := "(II)I" } : Jvm.MethodName) prog_1_method_45_code (4 : Nat) (Option.some Jvm.ClassFile.FieldType.int)) ∈ lw_all := lw_g (lw_at lw_m5 88 rfl) rfl
theorem q1162 : (Jvm.Cond.instanceMethod ({ cls := "LastAsked", name := "apart", desc := "(II)I" } : Jvm.MethodName)) ∈ lw_all := lw_g (lw_at lw_m5 90 rfl) rfl
theorem q1163 : (Jvm.Cond.selects "LastAsked" ({ cls := "LastAsked", name := "apart", desc := "(II)I" } : Jvm.MethodName) ({ cls := "LastAsked", name := "apart", desc := "(II)I" } : Jvm.MethodName)) ∈ lw_all := lw_g (lw_at lw_m5 91 rfl) rfl
theorem q1164 : (Jvm.Cond.code ({ cls := "LastAsked", name := "apart", desc := "(II)I" } : Jvm.MethodName) prog_1_method_46_code (4 : Nat) (Option.some Jvm.ClassFile.FieldType.int)) ∈ lw_all := lw_g (lw_at lw_m5 92 rfl) rfl
theorem q1165 : (Jvm.Cond.methodLinkNest "LastAsked" (246 : Nat) ({ cls := "LastAsked$Asks", name := "apart", desc := "(LLastAsked$City;II)I" } : Jvm.MethodName) "LastAsked") ∈ lw_tbl := lw_at lw_m5 93 rfl
theorem q1166 : (Jvm.Cond.constant "LastAsked" (250 : Nat) (1000000 : Int32)) ∈ lw_all := lw_g (lw_at lw_m5 94 rfl) rfl
theorem q1168 : (Jvm.Cond.instanceMethod ({ cls := "LastAsked", name := "toAsk", desc := "(I)I" } : Jvm.MethodName)) ∈ lw_all := lw_g (lw_at lw_m5 96 rfl) rfl
theorem q1169 : (Jvm.Cond.selects "LastAsked" ({ cls := "LastAsked", name := "toAsk", desc := "(I)I" } : Jvm.MethodName) ({ cls := "LastAsked", name := "toAsk", desc := "(I)I" } : Jvm.MethodName)) ∈ lw_all := lw_g (lw_at lw_m5 97 rfl) rfl
theorem q1170 : (Jvm.Cond.code ({ cls := "LastAsked", name := "toAsk", desc := "(I)I" } : Jvm.MethodName) prog_1_method_47_code (5 : Nat) (Option.some Jvm.ClassFile.FieldType.int)) ∈ lw_all := lw_g (lw_at lw_m5 98 rfl) rfl
theorem q1172 : (Jvm.Cond.instanceMethod ({ cls := "LastAsked", name := "rivals", desc := "(II)I" } : Jvm.MethodName)) ∈ lw_all := lw_g (lw_at lw_m5 100 rfl) rfl
theorem q1173 : (Jvm.Cond.selects "LastAsked" ({ cls := "LastAsked", name := "rivals", desc := "(II)I" } : Jvm.MethodName) ({ cls := "LastAsked", name := "rivals", desc := "(II)I" } : Jvm.MethodName)) ∈ lw_all := lw_g (lw_at lw_m5 101 rfl) rfl
theorem q1174 : (Jvm.Cond.code ({ cls := "LastAsked", name := "rivals", desc := "(II)I" } : Jvm.MethodName) prog_1_method_49_code (5 : Nat) (Option.some Jvm.ClassFile.FieldType.int)) ∈ lw_all := lw_g (lw_at lw_m5 102 rfl) rfl
theorem q1175 : (Jvm.Cond.methodLink "LastAsked" (251 : Nat) ({ cls := "LastAsked", name := "isAhead", desc := "(III)Z" } : Jvm.MethodName)) ∈ lw_all := lw_g (lw_at lw_m5 103 rfl) rfl
theorem q1176 : (Jvm.Cond.privateMethod ({ cls := "LastAsked", name := "isAhead", desc := "(III)Z" } : Jvm.MethodName)) ∈ lw_tbl := lw_at lw_m5 104 rfl
theorem q1177 : (Jvm.Cond.instanceMethod ({ cls := "LastAsked", name := "isAhead", desc := "(III)Z" } : Jvm.MethodName)) ∈ lw_all := lw_g (lw_at lw_m5 105 rfl) rfl
theorem q1178 : (Jvm.Cond.code ({ cls := "LastAsked", name := "isAhead", desc := "(III)Z" } : Jvm.MethodName) prog_1_method_48_code (6 : Nat) (Option.some Jvm.ClassFile.FieldType.boolean)) ∈ lw_all := lw_g (lw_at lw_m5 106 rfl) rfl
theorem q1180 : (Jvm.Cond.instanceMethod ({ cls := "LastAsked", name := "fits", desc := "()I" } : Jvm.MethodName)) ∈ lw_all := lw_g (lw_at lw_m5 108 rfl) rfl
theorem q1181 : (Jvm.Cond.selects "LastAsked" ({ cls := "LastAsked", name := "fits", desc := "()I" } : Jvm.MethodName) ({ cls := "LastAsked", name := "fits", desc := "()I" } : Jvm.MethodName)) ∈ lw_all := lw_g (lw_at lw_m5 109 rfl) rfl
theorem q1182 : (Jvm.Cond.code ({ cls := "LastAsked", name := "fits", desc := "()I" } : Jvm.MethodName) prog_1_method_54_code (3 : Nat) (Option.some Jvm.ClassFile.FieldType.int)) ∈ lw_all := lw_g (lw_at lw_m5 110 rfl) rfl
theorem q1183 : (Jvm.Cond.methodLink "LastAsked" (281 : Nat) ({ cls := "LastAsked", name := "choices", desc := "()I" } : Jvm.MethodName)) ∈ lw_all := lw_g (lw_at lw_m5 111 rfl) rfl
theorem q1184 : (Jvm.Cond.privateMethod ({ cls := "LastAsked", name := "choices", desc := "()I" } : Jvm.MethodName)) ∈ lw_tbl := lw_at lw_m5 112 rfl
theorem q1185 : (Jvm.Cond.instanceMethod ({ cls := "LastAsked", name := "choices", desc := "()I" } : Jvm.MethodName)) ∈ lw_all := lw_g (lw_at lw_m5 113 rfl) rfl
theorem q1186 : (Jvm.Cond.code ({ cls := "LastAsked", name := "choices", desc := "()I" } : Jvm.MethodName) prog_1_method_50_code (3 : Nat) (Option.some Jvm.ClassFile.FieldType.int)) ∈ lw_all := lw_g (lw_at lw_m5 114 rfl) rfl
theorem q1187 : (Jvm.Cond.methodLink "LastAsked" (257 : Nat) ({ cls := "LastAsked$City", name := "mayBe", desc := "(I)I" } : Jvm.MethodName)) ∈ lw_all := lw_g (lw_at lw_m5 115 rfl) rfl
theorem q1198 : (Jvm.Cond.methodLink "LastAsked" (284 : Nat) ({ cls := "LastAsked", name := "doesFit", desc := "(I)Z" } : Jvm.MethodName)) ∈ lw_all := lw_g (lw_at lw_m5 126 rfl) rfl
theorem q1199 : (Jvm.Cond.privateMethod ({ cls := "LastAsked", name := "doesFit", desc := "(I)Z" } : Jvm.MethodName)) ∈ lw_tbl := lw_at lw_m5 127 rfl
theorem q1200 : (Jvm.Cond.instanceMethod ({ cls := "LastAsked", name := "doesFit", desc := "(I)Z" } : Jvm.MethodName)) ∈ lw_all := lw_g (lw_at lw_m5 128 rfl) rfl
theorem q1201 : (Jvm.Cond.code ({ cls := "LastAsked", name := "doesFit", desc := "(I)Z" } : Jvm.MethodName) prog_1_method_53_code (3 : Nat) (Option.some Jvm.ClassFile.FieldType.boolean)) ∈ lw_all := lw_g (lw_at lw_m5 129 rfl) rfl
theorem q1202 : (Jvm.Cond.methodLink "LastAsked" (272 : Nat) ({ cls := "LastAsked$City", name := "earliest", desc := "(I)I" } : Jvm.MethodName)) ∈ lw_all := lw_g (lw_at lw_m5 130 rfl) rfl
theorem q1203 : (Jvm.Cond.methodLink "LastAsked" (275 : Nat) ({ cls := "LastAsked", name := "choice", desc := "(II)I" } : Jvm.MethodName)) ∈ lw_all := lw_g (lw_at lw_m5 131 rfl) rfl
theorem q1204 : (Jvm.Cond.privateMethod ({ cls := "LastAsked", name := "choice", desc := "(II)I" } : Jvm.MethodName)) ∈ lw_tbl := lw_at lw_m5 132 rfl
theorem q1205 : (Jvm.Cond.instanceMethod ({ cls := "LastAsked", name := "choice", desc := "(II)I" } : Jvm.MethodName)) ∈ lw_all := lw_g (lw_at lw_m5 133 rfl) rfl
theorem q1206 : (Jvm.Cond.code ({ cls := "LastAsked", name := "choice", desc := "(II)I" } : Jvm.MethodName) prog_1_method_51_code (5 : Nat) (Option.some Jvm.ClassFile.FieldType.int)) ∈ lw_all := lw_g (lw_at lw_m5 134 rfl) rfl
theorem q1207 : (Jvm.Cond.methodLink "LastAsked" (278 : Nat) ({ cls := "LastAsked", name := "wrong", desc := "()I" } : Jvm.MethodName)) ∈ lw_all := lw_g (lw_at lw_m5 135 rfl) rfl
theorem q1208 : (Jvm.Cond.privateMethod ({ cls := "LastAsked", name := "wrong", desc := "()I" } : Jvm.MethodName)) ∈ lw_tbl := lw_at lw_m5 136 rfl
theorem q1209 : (Jvm.Cond.instanceMethod ({ cls := "LastAsked", name := "wrong", desc := "()I" } : Jvm.MethodName)) ∈ lw_all := lw_g (lw_at lw_m5 137 rfl) rfl
theorem q1210 : (Jvm.Cond.code ({ cls := "LastAsked", name := "wrong", desc := "()I" } : Jvm.MethodName) prog_1_method_52_code (2 : Nat) (Option.some Jvm.ClassFile.FieldType.int)) ∈ lw_all := lw_g (lw_at lw_m5 138 rfl) rfl
theorem q1212 : (Jvm.Cond.instanceMethod ({ cls := "LastAsked", name := "fitAt", desc := "(II)I" } : Jvm.MethodName)) ∈ lw_all := lw_g (lw_at lw_m5 140 rfl) rfl
theorem q1213 : (Jvm.Cond.selects "LastAsked" ({ cls := "LastAsked", name := "fitAt", desc := "(II)I" } : Jvm.MethodName) ({ cls := "LastAsked", name := "fitAt", desc := "(II)I" } : Jvm.MethodName)) ∈ lw_all := lw_g (lw_at lw_m5 141 rfl) rfl
theorem q1214 : (Jvm.Cond.code ({ cls := "LastAsked", name := "fitAt", desc := "(II)I" } : Jvm.MethodName) prog_1_method_55_code (5 : Nat) (Option.some Jvm.ClassFile.FieldType.int)) ∈ lw_all := lw_g (lw_at lw_m5 142 rfl) rfl
theorem q1216 : (Jvm.Cond.instanceMethod ({ cls := "LastAsked", name := "heirBy", desc := "(II)I" } : Jvm.MethodName)) ∈ lw_all := lw_g (lw_at lw_m5 144 rfl) rfl
theorem q1217 : (Jvm.Cond.selects "LastAsked" ({ cls := "LastAsked", name := "heirBy", desc := "(II)I" } : Jvm.MethodName) ({ cls := "LastAsked", name := "heirBy", desc := "(II)I" } : Jvm.MethodName)) ∈ lw_all := lw_g (lw_at lw_m5 145 rfl) rfl
theorem q1218 : (Jvm.Cond.code ({ cls := "LastAsked", name := "heirBy", desc := "(II)I" } : Jvm.MethodName) prog_1_method_56_code (5 : Nat) (Option.some Jvm.ClassFile.FieldType.int)) ∈ lw_all := lw_g (lw_at lw_m5 146 rfl) rfl
theorem q1220 : (Jvm.Cond.instanceMethod ({ cls := "LastAsked", name := "look", desc := "()I" } : Jvm.MethodName)) ∈ lw_all := lw_g (lw_at lw_m5 148 rfl) rfl
theorem q1221 : (Jvm.Cond.selects "LastAsked" ({ cls := "LastAsked", name := "look", desc := "()I" } : Jvm.MethodName) ({ cls := "LastAsked", name := "look", desc := "()I" } : Jvm.MethodName)) ∈ lw_all := lw_g (lw_at lw_m5 149 rfl) rfl
theorem q1222 : (Jvm.Cond.code ({ cls := "LastAsked", name := "look", desc := "()I" } : Jvm.MethodName) prog_1_method_59_code (1 : Nat) (Option.some Jvm.ClassFile.FieldType.int)) ∈ lw_all := lw_g (lw_at lw_m5 150 rfl) rfl
theorem q1223 : (Jvm.Cond.methodLink "LastAsked" (295 : Nat) ({ cls := "LastAsked", name := "lookOf", desc := "()I" } : Jvm.MethodName)) ∈ lw_all := lw_g (lw_at lw_m5 151 rfl) rfl
theorem q1224 : (Jvm.Cond.privateMethod ({ cls := "LastAsked", name := "lookOf", desc := "()I" } : Jvm.MethodName)) ∈ lw_tbl := lw_at lw_m5 152 rfl
theorem q1225 : (Jvm.Cond.instanceMethod ({ cls := "LastAsked", name := "lookOf", desc := "()I" } : Jvm.MethodName)) ∈ lw_all := lw_g (lw_at lw_m5 153 rfl) rfl
theorem q1226 : (Jvm.Cond.code ({ cls := "LastAsked", name := "lookOf", desc := "()I" } : Jvm.MethodName) prog_1_method_58_code (5 : Nat) (Option.some Jvm.ClassFile.FieldType.int)) ∈ lw_all := lw_g (lw_at lw_m5 154 rfl) rfl
theorem q1227 : (Jvm.Cond.methodLink "LastAsked" (292 : Nat) ({ cls := "LastAsked", name := "leaves", desc := "(I)I" } : Jvm.MethodName)) ∈ lw_all := lw_g (lw_at lw_m5 155 rfl) rfl
theorem q1228 : (Jvm.Cond.privateMethod ({ cls := "LastAsked", name := "leaves", desc := "(I)I" } : Jvm.MethodName)) ∈ lw_tbl := lw_at lw_m5 156 rfl
theorem q1229 : (Jvm.Cond.instanceMethod ({ cls := "LastAsked", name := "leaves", desc := "(I)I" } : Jvm.MethodName)) ∈ lw_all := lw_g (lw_at lw_m5 157 rfl) rfl
theorem q1230 : (Jvm.Cond.code ({ cls := "LastAsked", name := "leaves", desc := "(I)I" } : Jvm.MethodName) prog_1_method_57_code (4 : Nat) (Option.some Jvm.ClassFile.FieldType.int)) ∈ lw_all := lw_g (lw_at lw_m5 158 rfl) rfl
theorem q1231 : (Jvm.Cond.methodLink "LastAsked" (287 : Nat) ({ cls := "java/lang/Math", name := "max", desc := "(II)I" } : Jvm.MethodName)) ∈ lw_all := lw_g (lw_at lw_m5 159 rfl) rfl
theorem q1233 : (Jvm.Cond.instanceMethod ({ cls := "LastAsked", name := "lookLeaves", desc := "()I" } : Jvm.MethodName)) ∈ lw_all := lw_g (lw_at lw_m5 161 rfl) rfl
theorem q1234 : (Jvm.Cond.selects "LastAsked" ({ cls := "LastAsked", name := "lookLeaves", desc := "()I" } : Jvm.MethodName) ({ cls := "LastAsked", name := "lookLeaves", desc := "()I" } : Jvm.MethodName)) ∈ lw_all := lw_g (lw_at lw_m5 162 rfl) rfl
theorem q1235 : (Jvm.Cond.code ({ cls := "LastAsked", name := "lookLeaves", desc := "()I" } : Jvm.MethodName) prog_1_method_60_code (2 : Nat) (Option.some Jvm.ClassFile.FieldType.int)) ∈ lw_all := lw_g (lw_at lw_m5 163 rfl) rfl
theorem q1237 : (Jvm.Cond.instanceMethod ({ cls := "LastAsked", name := "judge", desc := "()I" } : Jvm.MethodName)) ∈ lw_all := lw_g (lw_at lw_m5 165 rfl) rfl
theorem q1238 : (Jvm.Cond.selects "LastAsked" ({ cls := "LastAsked", name := "judge", desc := "()I" } : Jvm.MethodName) ({ cls := "LastAsked", name := "judge", desc := "()I" } : Jvm.MethodName)) ∈ lw_all := lw_g (lw_at lw_m5 166 rfl) rfl
theorem q1239 : (Jvm.Cond.code ({ cls := "LastAsked", name := "judge", desc := "()I" } : Jvm.MethodName) prog_1_method_61_code (1 : Nat) (Option.some Jvm.ClassFile.FieldType.int)) ∈ lw_all := lw_g (lw_at lw_m5 167 rfl) rfl
theorem q1241 : (Jvm.Cond.instanceMethod ({ cls := "LastAsked", name := "begs", desc := "(IZZZ)I" } : Jvm.MethodName)) ∈ lw_all := lw_g (lw_at lw_m5 169 rfl) rfl
theorem q1242 : (Jvm.Cond.selects "LastAsked" ({ cls := "LastAsked", name := "begs", desc := "(IZZZ)I" } : Jvm.MethodName) ({ cls := "LastAsked", name := "begs", desc := "(IZZZ)I" } : Jvm.MethodName)) ∈ lw_all := lw_g (lw_at lw_m5 170 rfl) rfl
theorem q1243 : (Jvm.Cond.code ({ cls := "LastAsked", name := "begs", desc := "(IZZZ)I" } : Jvm.MethodName) prog_1_method_64_code (5 : Nat) (Option.some Jvm.ClassFile.FieldType.int)) ∈ lw_all := lw_g (lw_at lw_m5 171 rfl) rfl
theorem q1244 : (Jvm.Cond.methodLink "LastAsked" (298 : Nat) ({ cls := "LastAsked", name := "beggars", desc := "(ZZ)I" } : Jvm.MethodName)) ∈ lw_all := lw_g (lw_at lw_m5 172 rfl) rfl
theorem q1245 : (Jvm.Cond.static ({ cls := "LastAsked", name := "beggars", desc := "(ZZ)I" } : Jvm.MethodName)) ∈ lw_all := lw_g (lw_at lw_m5 173 rfl) rfl
theorem q1246 : (Jvm.Cond.code ({ cls := "LastAsked", name := "beggars", desc := "(ZZ)I" } : Jvm.MethodName) prog_1_method_63_code (2 : Nat) (Option.some Jvm.ClassFile.FieldType.int)) ∈ lw_all := lw_g (lw_at lw_m5 174 rfl) rfl
theorem q1247 : (Jvm.Cond.methodLink "LastAsked" (301 : Nat) ({ cls := "LastAsked", name := "richs", desc := "(IZZ)I" } : Jvm.MethodName)) ∈ lw_all := lw_g (lw_at lw_m5 175 rfl) rfl
theorem q1248 : (Jvm.Cond.static ({ cls := "LastAsked", name := "richs", desc := "(IZZ)I" } : Jvm.MethodName)) ∈ lw_all := lw_g (lw_at lw_m5 176 rfl) rfl
theorem q1249 : (Jvm.Cond.code ({ cls := "LastAsked", name := "richs", desc := "(IZZ)I" } : Jvm.MethodName) prog_1_method_62_code (3 : Nat) (Option.some Jvm.ClassFile.FieldType.int)) ∈ lw_all := lw_g (lw_at lw_m5 177 rfl) rfl
theorem q1251 : (Jvm.Cond.instanceMethod ({ cls := "LastAsked", name := "rests", desc := "(I)I" } : Jvm.MethodName)) ∈ lw_all := lw_g (lw_at lw_m5 179 rfl) rfl
theorem q1252 : (Jvm.Cond.selects "LastAsked" ({ cls := "LastAsked", name := "rests", desc := "(I)I" } : Jvm.MethodName) ({ cls := "LastAsked", name := "rests", desc := "(I)I" } : Jvm.MethodName)) ∈ lw_all := lw_g (lw_at lw_m5 180 rfl) rfl
theorem q1253 : (Jvm.Cond.code ({ cls := "LastAsked", name := "rests", desc := "(I)I" } : Jvm.MethodName) prog_1_method_67_code (3 : Nat) (Option.some Jvm.ClassFile.FieldType.int)) ∈ lw_all := lw_g (lw_at lw_m5 181 rfl) rfl
theorem q1254 : (Jvm.Cond.methodLink "LastAsked" (312 : Nat) ({ cls := "LastAsked", name := "seekRests", desc := "(I)I" } : Jvm.MethodName)) ∈ lw_all := lw_g (lw_at lw_m5 182 rfl) rfl
theorem q1255 : (Jvm.Cond.privateMethod ({ cls := "LastAsked", name := "seekRests", desc := "(I)I" } : Jvm.MethodName)) ∈ lw_tbl := lw_at lw_m5 183 rfl
theorem q1256 : (Jvm.Cond.instanceMethod ({ cls := "LastAsked", name := "seekRests", desc := "(I)I" } : Jvm.MethodName)) ∈ lw_all := lw_g (lw_at lw_m5 184 rfl) rfl
theorem q1257 : (Jvm.Cond.code ({ cls := "LastAsked", name := "seekRests", desc := "(I)I" } : Jvm.MethodName) prog_1_method_66_code (4 : Nat) (Option.some Jvm.ClassFile.FieldType.int)) ∈ lw_all := lw_g (lw_at lw_m5 185 rfl) rfl
theorem q1258 : (Jvm.Cond.methodLink "LastAsked" (308 : Nat) ({ cls := "LastAsked", name := "isRest", desc := "(IZZ)Z" } : Jvm.MethodName)) ∈ lw_all := lw_g (lw_at lw_m5 186 rfl) rfl
theorem q1259 : (Jvm.Cond.static ({ cls := "LastAsked", name := "isRest", desc := "(IZZ)Z" } : Jvm.MethodName)) ∈ lw_all := lw_g (lw_at lw_m5 187 rfl) rfl
theorem q1260 : (Jvm.Cond.code ({ cls := "LastAsked", name := "isRest", desc := "(IZZ)Z" } : Jvm.MethodName) prog_1_method_65_code (3 : Nat) (Option.some Jvm.ClassFile.FieldType.boolean)) ∈ lw_all := lw_g (lw_at lw_m5 188 rfl) rfl
theorem q1262 : (Jvm.Cond.instanceMethod ({ cls := "LastAsked", name := "rest", desc := "(I)I" } : Jvm.MethodName)) ∈ lw_all := lw_g (lw_at lw_m5 190 rfl) rfl
theorem q1263 : (Jvm.Cond.selects "LastAsked" ({ cls := "LastAsked", name := "rest", desc := "(I)I" } : Jvm.MethodName) ({ cls := "LastAsked", name := "rest", desc := "(I)I" } : Jvm.MethodName)) ∈ lw_all := lw_g (lw_at lw_m5 191 rfl) rfl
theorem q1264 : (Jvm.Cond.code ({ cls := "LastAsked", name := "rest", desc := "(I)I" } : Jvm.MethodName) prog_1_method_68_code (3 : Nat) (Option.some Jvm.ClassFile.FieldType.int)) ∈ lw_all := lw_g (lw_at lw_m5 192 rfl) rfl
theorem q1266 : (Jvm.Cond.instanceMethod ({ cls := "LastAsked", name := "nights", desc := "(III)I" } : Jvm.MethodName)) ∈ lw_all := lw_g (lw_at lw_m5 194 rfl) rfl
theorem q1267 : (Jvm.Cond.selects "LastAsked" ({ cls := "LastAsked", name := "nights", desc := "(III)I" } : Jvm.MethodName) ({ cls := "LastAsked", name := "nights", desc := "(III)I" } : Jvm.MethodName)) ∈ lw_all := lw_g (lw_at lw_m5 195 rfl) rfl
theorem q1268 : (Jvm.Cond.code ({ cls := "LastAsked", name := "nights", desc := "(III)I" } : Jvm.MethodName) prog_1_method_70_code (5 : Nat) (Option.some Jvm.ClassFile.FieldType.int)) ∈ lw_all := lw_g (lw_at lw_m5 196 rfl) rfl
theorem q1269 : (Jvm.Cond.methodLink "LastAsked" (329 : Nat) ({ cls := "LastAsked", name := "nightsWhy", desc := "(ZII)I" } : Jvm.MethodName)) ∈ lw_all := lw_g (lw_at lw_m5 197 rfl) rfl
theorem q1270 : (Jvm.Cond.privateMethod ({ cls := "LastAsked", name := "nightsWhy", desc := "(ZII)I" } : Jvm.MethodName)) ∈ lw_tbl := lw_at lw_m5 198 rfl
theorem q1271 : (Jvm.Cond.instanceMethod ({ cls := "LastAsked", name := "nightsWhy", desc := "(ZII)I" } : Jvm.MethodName)) ∈ lw_all := lw_g (lw_at lw_m5 199 rfl) rfl
theorem q1272 : (Jvm.Cond.code ({ cls := "LastAsked", name := "nightsWhy", desc := "(ZII)I" } : Jvm.MethodName) prog_1_method_69_code (7 : Nat) (Option.some Jvm.ClassFile.FieldType.int)) ∈ lw_all := lw_g (lw_at lw_m5 200 rfl) rfl
theorem q1273 : (Jvm.Cond.constant "LastAsked" (315 : Nat) (65536 : Int32)) ∈ lw_all := lw_g (lw_at lw_m5 201 rfl) rfl
theorem q1274 : (Jvm.Cond.methodLink "LastAsked" (316 : Nat) ({ cls := "LastAsked$Town", name := "become", desc := "(LLastAsked$Town;)LLastAsked$Town;" } : Jvm.MethodName)) ∈ lw_all := lw_g (lw_at lw_m5 202 rfl) rfl
theorem q1275 : (Jvm.Cond.methodLink "LastAsked" (326 : Nat) ({ cls := "LastAsked$Town", name := "draws", desc := "()I" } : Jvm.MethodName)) ∈ lw_all := lw_g (lw_at lw_m5 203 rfl) rfl
theorem q1281 : (Jvm.Cond.instanceMethod ({ cls := "LastAsked", name := "lives", desc := "(II)I" } : Jvm.MethodName)) ∈ lw_all := lw_g (lw_at lw_m5 209 rfl) rfl
theorem q1282 : (Jvm.Cond.selects "LastAsked" ({ cls := "LastAsked", name := "lives", desc := "(II)I" } : Jvm.MethodName) ({ cls := "LastAsked", name := "lives", desc := "(II)I" } : Jvm.MethodName)) ∈ lw_all := lw_g (lw_at lw_m5 210 rfl) rfl
theorem q1283 : (Jvm.Cond.code ({ cls := "LastAsked", name := "lives", desc := "(II)I" } : Jvm.MethodName) prog_1_method_71_code (4 : Nat) (Option.some Jvm.ClassFile.FieldType.int)) ∈ lw_all := lw_g (lw_at lw_m5 211 rfl) rfl
theorem q1285 : (Jvm.Cond.instanceMethod ({ cls := "LastAsked", name := "firstCat", desc := "(II)I" } : Jvm.MethodName)) ∈ lw_all := lw_g (lw_at lw_m5 213 rfl) rfl
theorem q1286 : (Jvm.Cond.selects "LastAsked" ({ cls := "LastAsked", name := "firstCat", desc := "(II)I" } : Jvm.MethodName) ({ cls := "LastAsked", name := "firstCat", desc := "(II)I" } : Jvm.MethodName)) ∈ lw_all := lw_g (lw_at lw_m5 214 rfl) rfl
theorem q1287 : (Jvm.Cond.code ({ cls := "LastAsked", name := "firstCat", desc := "(II)I" } : Jvm.MethodName) prog_1_method_72_code (4 : Nat) (Option.some Jvm.ClassFile.FieldType.int)) ∈ lw_all := lw_g (lw_at lw_m5 215 rfl) rfl
theorem q1289 : (Jvm.Cond.instanceMethod ({ cls := "LastAsked", name := "ask", desc := "(II)I" } : Jvm.MethodName)) ∈ lw_all := lw_g (lw_at lw_m5 217 rfl) rfl
theorem q1290 : (Jvm.Cond.selects "LastAsked" ({ cls := "LastAsked", name := "ask", desc := "(II)I" } : Jvm.MethodName) ({ cls := "LastAsked", name := "ask", desc := "(II)I" } : Jvm.MethodName)) ∈ lw_all := lw_g (lw_at lw_m5 218 rfl) rfl
theorem q1291 : (Jvm.Cond.code ({ cls := "LastAsked", name := "ask", desc := "(II)I" } : Jvm.MethodName) prog_1_method_75_code (4 : Nat) (Option.some Jvm.ClassFile.FieldType.int)) ∈ lw_all := lw_g (lw_at lw_m5 219 rfl) rfl
theorem q1292 : (Jvm.Cond.methodLink "LastAsked" (336 : Nat) ({ cls := "LastAsked", name := "note", desc := "()V" } : Jvm.MethodName)) ∈ lw_all := lw_g (lw_at lw_m5 220 rfl) rfl
theorem q1293 : (Jvm.Cond.privateMethod ({ cls := "LastAsked", name := "note", desc := "()V" } : Jvm.MethodName)) ∈ lw_tbl := lw_at lw_m5 221 rfl
theorem q1294 : (Jvm.Cond.instanceMethod ({ cls := "LastAsked", name := "note", desc := "()V" } : Jvm.MethodName)) ∈ lw_all := lw_g (lw_at lw_m5 222 rfl) rfl
theorem q1295 : (Jvm.Cond.code ({ cls := "LastAsked", name := "note", desc := "()V" } : Jvm.MethodName) prog_1_method_73_code (1 : Nat) (Option.none : Option Jvm.ClassFile.FieldType)) ∈ lw_all := lw_g (lw_at lw_m5 223 rfl) rfl
theorem q1296 : (Jvm.Cond.methodLink "LastAsked" (339 : Nat) ({ cls := "LastAsked$Town", name := "asks", desc := "(II)I" } : Jvm.MethodName)) ∈ lw_all := lw_g (lw_at lw_m5 224 rfl) rfl
theorem q1297 : (Jvm.Cond.methodLink "LastAsked" (342 : Nat) ({ cls := "LastAsked", name := "done", desc := "()Z" } : Jvm.MethodName)) ∈ lw_all := lw_g (lw_at lw_m5 225 rfl) rfl
theorem q1298 : (Jvm.Cond.privateMethod ({ cls := "LastAsked", name := "done", desc := "()Z" } : Jvm.MethodName)) ∈ lw_tbl := lw_at lw_m5 226 rfl
theorem q1299 : (Jvm.Cond.instanceMethod ({ cls := "LastAsked", name := "done", desc := "()Z" } : Jvm.MethodName)) ∈ lw_all := lw_g (lw_at lw_m5 227 rfl) rfl
theorem q1300 : (Jvm.Cond.code ({ cls := "LastAsked", name := "done", desc := "()Z" } : Jvm.MethodName) prog_1_method_74_code (3 : Nat) (Option.some Jvm.ClassFile.FieldType.boolean)) ∈ lw_all := lw_g (lw_at lw_m5 228 rfl) rfl
theorem q1302 : (Jvm.Cond.instanceMethod ({ cls := "LastAsked", name := "die", desc := "(I)I" } : Jvm.MethodName)) ∈ lw_all := lw_g (lw_at lw_m5 230 rfl) rfl
theorem q1303 : (Jvm.Cond.selects "LastAsked" ({ cls := "LastAsked", name := "die", desc := "(I)I" } : Jvm.MethodName) ({ cls := "LastAsked", name := "die", desc := "(I)I" } : Jvm.MethodName)) ∈ lw_all := lw_g (lw_at lw_m5 231 rfl) rfl
theorem q1304 : (Jvm.Cond.code ({ cls := "LastAsked", name := "die", desc := "(I)I" } : Jvm.MethodName) prog_1_method_76_code (4 : Nat) (Option.some Jvm.ClassFile.FieldType.int)) ∈ lw_all := lw_g (lw_at lw_m5 232 rfl) rfl
theorem q1306 : (Jvm.Cond.instanceMethod ({ cls := "LastAsked", name := "night", desc := "()I" } : Jvm.MethodName)) ∈ lw_all := lw_g (lw_at lw_m5 234 rfl) rfl
theorem q1307 : (Jvm.Cond.selects "LastAsked" ({ cls := "LastAsked", name := "night", desc := "()I" } : Jvm.MethodName) ({ cls := "LastAsked", name := "night", desc := "()I" } : Jvm.MethodName)) ∈ lw_all := lw_g (lw_at lw_m5 235 rfl) rfl
theorem q1308 : (Jvm.Cond.code ({ cls := "LastAsked", name := "night", desc := "()I" } : Jvm.MethodName) prog_1_method_77_code (2 : Nat) (Option.some Jvm.ClassFile.FieldType.int)) ∈ lw_all := lw_g (lw_at lw_m5 236 rfl) rfl
theorem q1310 : (Jvm.Cond.instanceMethod ({ cls := "LastAsked", name := "seed", desc := "(I)Z" } : Jvm.MethodName)) ∈ lw_all := lw_g (lw_at lw_m5 238 rfl) rfl
theorem q1311 : (Jvm.Cond.selects "LastAsked" ({ cls := "LastAsked", name := "seed", desc := "(I)Z" } : Jvm.MethodName) ({ cls := "LastAsked", name := "seed", desc := "(I)Z" } : Jvm.MethodName)) ∈ lw_all := lw_g (lw_at lw_m5 239 rfl) rfl
theorem q1312 : (Jvm.Cond.code ({ cls := "LastAsked", name := "seed", desc := "(I)Z" } : Jvm.MethodName) prog_1_method_78_code (2 : Nat) (Option.some Jvm.ClassFile.FieldType.boolean)) ∈ lw_all := lw_g (lw_at lw_m6 0 rfl) rfl
theorem q1313 : (Jvm.Cond.methodLink "LastAsked" (349 : Nat) ({ cls := "LastAsked", name := "yes", desc := "(I)Z" } : Jvm.MethodName)) ∈ lw_all := lw_g (lw_at lw_m6 1 rfl) rfl
theorem q1314 : (Jvm.Cond.privateMethod ({ cls := "LastAsked", name := "yes", desc := "(I)Z" } : Jvm.MethodName)) ∈ lw_tbl := lw_at lw_m6 2 rfl
theorem q1315 : (Jvm.Cond.instanceMethod ({ cls := "LastAsked", name := "yes", desc := "(I)Z" } : Jvm.MethodName)) ∈ lw_all := lw_g (lw_at lw_m6 3 rfl) rfl
theorem q1316 : (Jvm.Cond.code ({ cls := "LastAsked", name := "yes", desc := "(I)Z" } : Jvm.MethodName) prog_1_method_9_code (2 : Nat) (Option.some Jvm.ClassFile.FieldType.boolean)) ∈ lw_all := lw_g (lw_at lw_m6 4 rfl) rfl
theorem q1318 : (Jvm.Cond.instanceMethod ({ cls := "LastAsked", name := "undo", desc := "()Z" } : Jvm.MethodName)) ∈ lw_all := lw_g (lw_at lw_m6 6 rfl) rfl
theorem q1319 : (Jvm.Cond.selects "LastAsked" ({ cls := "LastAsked", name := "undo", desc := "()Z" } : Jvm.MethodName) ({ cls := "LastAsked", name := "undo", desc := "()Z" } : Jvm.MethodName)) ∈ lw_all := lw_g (lw_at lw_m6 7 rfl) rfl
theorem q1320 : (Jvm.Cond.code ({ cls := "LastAsked", name := "undo", desc := "()Z" } : Jvm.MethodName) prog_1_method_79_code (1 : Nat) (Option.some Jvm.ClassFile.FieldType.boolean)) ∈ lw_all := lw_g (lw_at lw_m6 8 rfl) rfl
theorem q1322 : (Jvm.Cond.instanceMethod ({ cls := "LastAsked", name := "image", desc := "()I" } : Jvm.MethodName)) ∈ lw_all := lw_g (lw_at lw_m6 10 rfl) rfl
theorem q1323 : (Jvm.Cond.selects "LastAsked" ({ cls := "LastAsked", name := "image", desc := "()I" } : Jvm.MethodName) ({ cls := "LastAsked", name := "image", desc := "()I" } : Jvm.MethodName)) ∈ lw_all := lw_g (lw_at lw_m6 11 rfl) rfl
theorem q1324 : (Jvm.Cond.code ({ cls := "LastAsked", name := "image", desc := "()I" } : Jvm.MethodName) prog_1_method_80_code (1 : Nat) (Option.some Jvm.ClassFile.FieldType.int)) ∈ lw_all := lw_g (lw_at lw_m6 12 rfl) rfl
theorem q1326 : (Jvm.Cond.instanceMethod ({ cls := "LastAsked", name := "back", desc := "(I)Z" } : Jvm.MethodName)) ∈ lw_all := lw_g (lw_at lw_m6 14 rfl) rfl
theorem q1327 : (Jvm.Cond.selects "LastAsked" ({ cls := "LastAsked", name := "back", desc := "(I)Z" } : Jvm.MethodName) ({ cls := "LastAsked", name := "back", desc := "(I)Z" } : Jvm.MethodName)) ∈ lw_all := lw_g (lw_at lw_m6 15 rfl) rfl
theorem q1328 : (Jvm.Cond.code ({ cls := "LastAsked", name := "back", desc := "(I)Z" } : Jvm.MethodName) prog_1_method_81_code (2 : Nat) (Option.some Jvm.ClassFile.FieldType.boolean)) ∈ lw_all := lw_g (lw_at lw_m6 16 rfl) rfl
theorem q1330 : (Jvm.Cond.instanceMethod ({ cls := "LastAsked", name := "size", desc := "(I)I" } : Jvm.MethodName)) ∈ lw_all := lw_g (lw_at lw_m6 18 rfl) rfl
theorem q1331 : (Jvm.Cond.selects "LastAsked" ({ cls := "LastAsked", name := "size", desc := "(I)I" } : Jvm.MethodName) ({ cls := "LastAsked", name := "size", desc := "(I)I" } : Jvm.MethodName)) ∈ lw_all := lw_g (lw_at lw_m6 19 rfl) rfl
theorem q1332 : (Jvm.Cond.code ({ cls := "LastAsked", name := "size", desc := "(I)I" } : Jvm.MethodName) prog_1_method_83_code (2 : Nat) (Option.some Jvm.ClassFile.FieldType.int)) ∈ lw_all := lw_g (lw_at lw_m6 20 rfl) rfl
theorem q1334 : (Jvm.Cond.instanceMethod ({ cls := "LastAsked", name := "trouble", desc := "()I" } : Jvm.MethodName)) ∈ lw_all := lw_g (lw_at lw_m6 22 rfl) rfl
theorem q1335 : (Jvm.Cond.selects "LastAsked" ({ cls := "LastAsked", name := "trouble", desc := "()I" } : Jvm.MethodName) ({ cls := "LastAsked", name := "trouble", desc := "()I" } : Jvm.MethodName)) ∈ lw_all := lw_g (lw_at lw_m6 23 rfl) rfl
theorem q1336 : (Jvm.Cond.code ({ cls := "LastAsked", name := "trouble", desc := "()I" } : Jvm.MethodName) prog_1_method_84_code (1 : Nat) (Option.some Jvm.ClassFile.FieldType.int)) ∈ lw_all := lw_g (lw_at lw_m6 24 rfl) rfl
theorem q1342 : (Jvm.Cond.instanceMethod ({ cls := "LastAsked", name := "led", desc := "(I)I" } : Jvm.MethodName)) ∈ lw_all := lw_g (lw_at lw_m6 30 rfl) rfl
theorem q1343 : (Jvm.Cond.selects "LastAsked" ({ cls := "LastAsked", name := "led", desc := "(I)I" } : Jvm.MethodName) ({ cls := "LastAsked", name := "led", desc := "(I)I" } : Jvm.MethodName)) ∈ lw_all := lw_g (lw_at lw_m6 31 rfl) rfl
theorem q1344 : (Jvm.Cond.code ({ cls := "LastAsked", name := "led", desc := "(I)I" } : Jvm.MethodName) prog_1_method_82_code (4 : Nat) (Option.some Jvm.ClassFile.FieldType.int)) ∈ lw_all := lw_g (lw_at lw_m6 32 rfl) rfl
theorem q1345 : (Jvm.Cond.classLink "LastAsked" (352 : Nat) "java/util/NoSuchElementException") ∈ lw_all := lw_g (lw_at lw_m6 33 rfl) rfl
theorem q1354 : (Jvm.Cond.methodLink "LastAsked" (354 : Nat) ({ cls := "java/util/NoSuchElementException", name := "<init>", desc := "()V" } : Jvm.MethodName)) ∈ lw_all := lw_g (lw_at lw_m6 42 rfl) rfl
theorem q2100 : (Jvm.Cond.castable "LastAsked" "java/lang/Object") ∈ lw_tbl := lw_at lw_m9 68 rfl
theorem in_X1 : ∀ w ∈ wsX10, w ∈ lw_all := lw_in wsX10 [378, 380, 382, 384, 386, 388, 390, 392, 394, 396, 398, 400, 402, 404, 406, 408, 410, 412, 414, 416] (by decide +kernel) (by decide +kernel)
