/-! LastAskedModel -/
set_option maxRecDepth 100000
def RX7 : String := "LastAskedModel"
def TX7 : u_T := fun k => match k with
  | 0 => ("LastAskedModel", "thrown", "I", false)
  | 1 => ("LastAskedModel", "trouble", "I", false)
  | 2 => ("LastAskedModel", "where", "I", false)
  | 3 => ("LastAskedModel", "city", "LLastAskedModel$City;", false)
  | 4 => ("LastAskedModel", "read", "LLastAskedModel$City;", false)
  | 5 => ("LastAskedModel", "tape", "[B", true)
  | 6 => ("LastAskedModel", "taped", "I", false)
  | 7 => ("LastAskedModel", "size", "I", false)
  | 8 => ("LastAskedModel", "spot", "I", false)
  | 9 => ("LastAskedModel", "sort", "I", false)
  | 10 => ("LastAskedModel", "place", "I", false)
  | 11 => ("LastAskedModel", "number", "I", false)
  | 12 => ("LastAskedModel", "fault", "I", false)
  | 13 => ("LastAskedModel", "wrongAt", "I", false)
  | 14 => ("LastAskedModel", "word", "J", false)
  | 15 => ("LastAskedModel", "askedOf", "I", false)
  | 16 => ("LastAskedModel", "v", "[I", true)
  | 17 => ("LastAskedModel", "x", "[I", true)
  | 18 => ("LastAskedModel", "past", "[I", true)
  | 19 => ("LastAskedModel", "kept", "[I", true)
  | 20 => ("LastAskedModel", "acts", "I", false)
  | 21 => ("LastAskedModel", "images", "I", false)
  | 22 => ("LastAskedModel", "heir", "[I", true)
  | 23 => ("LastAskedModel", "then", "[I", true)
  | 24 => ("LastAskedModel", "catGets", "I", false)
  | 25 => ("LastAskedModel", "whole", "J", false)
  | 26 => ("LastAskedModel", "bestSum", "J", false)
  | 27 => ("LastAskedModel", "come", "[I", true)
  | 28 => ("LastAskedModel", "comeThen", "[I", true)
  | 29 => ("LastAskedModel", "tourHoursNow", "I", false)
  | 30 => ("LastAskedModel", "hour", "[I", true)
  | 31 => ("LastAskedModel", "partIn", "[I", true)
  | 32 => ("LastAskedModel", "heirIn", "[I", true)
  | 33 => ("LastAskedModel", "fitsNow", "I", false)
  | 34 => ("LastAskedModel", "foundHour", "I", false)
  | 35 => ("LastAskedModel", "lookLeft", "I", false)
  | _ => ("LastAskedModel", "firstCatNow", "I", false)
def tyX7 : Nat → FieldType := fun k => match k with
  | 0 => .int
  | 1 => .int
  | 2 => .int
  | 3 => .object "LastAskedModel$City"
  | 4 => .object "LastAskedModel$City"
  | 5 => .array .byte
  | 6 => .int
  | 7 => .int
  | 8 => .int
  | 9 => .int
  | 10 => .int
  | 11 => .int
  | 12 => .int
  | 13 => .int
  | 14 => .long
  | 15 => .int
  | 16 => .array .int
  | 17 => .array .int
  | 18 => .array .int
  | 19 => .array .int
  | 20 => .int
  | 21 => .int
  | 22 => .array .int
  | 23 => .array .int
  | 24 => .int
  | 25 => .long
  | 26 => .long
  | 27 => .array .int
  | 28 => .array .int
  | 29 => .int
  | 30 => .array .int
  | 31 => .array .int
  | 32 => .array .int
  | 33 => .int
  | 34 => .int
  | 35 => .int
  | _ => .int
abbrev wsX70 : List Cond := u_ws RX7 TX7 37
set_option maxRecDepth 100000 in
theorem nmX7 : ∀ a, a < 37 → ∀ b, b < 37 → a ≠ b → (TX7 a).2.1 ≠ (TX7 b).2.1 := by decide +kernel
set_option maxRecDepth 100000 in
theorem tyX7_ok : ∀ k, k < 37 → parseFieldDescriptor (TX7 k).2.2.1 = some (tyX7 k) := by decide +kernel
abbrev cX7_init : ByteArray := prog_14_method_1_code
def yX7_init : MethodName := ⟨RX7, "<init>", "()V"⟩
def dkwX7_init_4 : List UInt8 := [188, 10, 181, 0, 45, 42, 16, 36, 188, 10, 181, 0, 48, 177]
abbrev dktX7_init_4 : List UInt8 := dkwX7_init_4 ++ []
def dkwX7_init_3 : List UInt8 := [188, 10, 181, 0, 36, 42, 16, 64, 188, 10, 181, 0, 39, 42, 6, 188, 10, 181, 0, 42, 42, 16, 21]
abbrev dktX7_init_3 : List UInt8 := dkwX7_init_3 ++ dktX7_init_4
def dkwX7_init_2 : List UInt8 := [188, 10, 181, 0, 27, 42, 16, 6, 188, 10, 181, 0, 30, 42, 16, 6, 188, 10, 181, 0, 33, 42, 16, 64]
abbrev dktX7_init_2 : List UInt8 := dkwX7_init_2 ++ dktX7_init_3
def dkwX7_init_1 : List UInt8 := [181, 0, 17, 42, 16, 47, 188, 10, 181, 0, 21, 42, 17, 2, 240, 188, 10, 181, 0, 24, 42, 17, 0, 141]
abbrev dktX7_init_1 : List UInt8 := dkwX7_init_1 ++ dktX7_init_2
def dkwX7_init_0 : List UInt8 := [42, 183, 0, 3, 42, 2, 181, 0, 9, 42, 17, 3, 132, 188, 8, 181, 0, 13, 42, 16, 47, 188, 10]
abbrev dktX7_init_0 : List UInt8 := dkwX7_init_0 ++ dktX7_init_1
theorem dksX7_init_0 : cX7_init.data.toList.drop 0 = dktX7_init_0 := by decide +kernel
theorem dksX7_init_1 : cX7_init.data.toList.drop 23 = dktX7_init_1 := dk_seg dksX7_init_0 23 rfl rfl
theorem dksX7_init_2 : cX7_init.data.toList.drop 47 = dktX7_init_2 := dk_seg dksX7_init_1 24 rfl rfl
theorem dksX7_init_3 : cX7_init.data.toList.drop 71 = dktX7_init_3 := dk_seg dksX7_init_2 24 rfl rfl
theorem dksX7_init_4 : cX7_init.data.toList.drop 94 = dktX7_init_4 := dk_seg dksX7_init_3 23 rfl rfl
theorem dX7_init_0 : decode cX7_init 0 = .ok (.aload_n 0, 1) := dk_42 (dk_at dksX7_init_0 0 rfl rfl)
theorem dX7_init_1 : decode cX7_init 1 = .ok (.invokespecial 3, 3) := dk_183 0 3 (dk_at dksX7_init_0 1 rfl rfl)
theorem dX7_init_4 : decode cX7_init 4 = .ok (.aload_n 0, 1) := dk_42 (dk_at dksX7_init_0 4 rfl rfl)
theorem dX7_init_5 : decode cX7_init 5 = .ok (.iconst (-1), 1) := dk_2 (dk_at dksX7_init_0 5 rfl rfl)
theorem dX7_init_6 : decode cX7_init 6 = .ok (.putfield 9, 3) := dk_181 0 9 (dk_at dksX7_init_0 6 rfl rfl)
theorem dX7_init_9 : decode cX7_init 9 = .ok (.aload_n 0, 1) := dk_42 (dk_at dksX7_init_0 9 rfl rfl)
theorem dX7_init_10 : decode cX7_init 10 = .ok (.sipush 900, 3) := dk_17 3 132 (dk_at dksX7_init_0 10 rfl rfl)
theorem dX7_init_13 : decode cX7_init 13 = .ok (.newarray .byte, 2) := dk_188_8 (dk_at dksX7_init_0 13 rfl rfl)
theorem dX7_init_15 : decode cX7_init 15 = .ok (.putfield 13, 3) := dk_181 0 13 (dk_at dksX7_init_0 15 rfl rfl)
theorem dX7_init_18 : decode cX7_init 18 = .ok (.aload_n 0, 1) := dk_42 (dk_at dksX7_init_0 18 rfl rfl)
theorem dX7_init_19 : decode cX7_init 19 = .ok (.bipush 47, 2) := dk_16 47 (dk_at dksX7_init_0 19 rfl rfl)
theorem dX7_init_21 : decode cX7_init 21 = .ok (.newarray .int, 2) := dk_188_10 (dk_at dksX7_init_0 21 rfl rfl)
theorem dX7_init_23 : decode cX7_init 23 = .ok (.putfield 17, 3) := dk_181 0 17 (dk_at dksX7_init_1 0 rfl rfl)
theorem dX7_init_26 : decode cX7_init 26 = .ok (.aload_n 0, 1) := dk_42 (dk_at dksX7_init_1 3 rfl rfl)
theorem dX7_init_27 : decode cX7_init 27 = .ok (.bipush 47, 2) := dk_16 47 (dk_at dksX7_init_1 4 rfl rfl)
theorem dX7_init_29 : decode cX7_init 29 = .ok (.newarray .int, 2) := dk_188_10 (dk_at dksX7_init_1 6 rfl rfl)
theorem dX7_init_31 : decode cX7_init 31 = .ok (.putfield 21, 3) := dk_181 0 21 (dk_at dksX7_init_1 8 rfl rfl)
theorem dX7_init_34 : decode cX7_init 34 = .ok (.aload_n 0, 1) := dk_42 (dk_at dksX7_init_1 11 rfl rfl)
theorem dX7_init_35 : decode cX7_init 35 = .ok (.sipush 752, 3) := dk_17 2 240 (dk_at dksX7_init_1 12 rfl rfl)
theorem dX7_init_38 : decode cX7_init 38 = .ok (.newarray .int, 2) := dk_188_10 (dk_at dksX7_init_1 15 rfl rfl)
theorem dX7_init_40 : decode cX7_init 40 = .ok (.putfield 24, 3) := dk_181 0 24 (dk_at dksX7_init_1 17 rfl rfl)
theorem dX7_init_43 : decode cX7_init 43 = .ok (.aload_n 0, 1) := dk_42 (dk_at dksX7_init_1 20 rfl rfl)
theorem dX7_init_44 : decode cX7_init 44 = .ok (.sipush 141, 3) := dk_17 0 141 (dk_at dksX7_init_1 21 rfl rfl)
theorem dX7_init_47 : decode cX7_init 47 = .ok (.newarray .int, 2) := dk_188_10 (dk_at dksX7_init_2 0 rfl rfl)
theorem dX7_init_49 : decode cX7_init 49 = .ok (.putfield 27, 3) := dk_181 0 27 (dk_at dksX7_init_2 2 rfl rfl)
theorem dX7_init_52 : decode cX7_init 52 = .ok (.aload_n 0, 1) := dk_42 (dk_at dksX7_init_2 5 rfl rfl)
theorem dX7_init_53 : decode cX7_init 53 = .ok (.bipush 6, 2) := dk_16 6 (dk_at dksX7_init_2 6 rfl rfl)
theorem dX7_init_55 : decode cX7_init 55 = .ok (.newarray .int, 2) := dk_188_10 (dk_at dksX7_init_2 8 rfl rfl)
theorem dX7_init_57 : decode cX7_init 57 = .ok (.putfield 30, 3) := dk_181 0 30 (dk_at dksX7_init_2 10 rfl rfl)
theorem dX7_init_60 : decode cX7_init 60 = .ok (.aload_n 0, 1) := dk_42 (dk_at dksX7_init_2 13 rfl rfl)
theorem dX7_init_61 : decode cX7_init 61 = .ok (.bipush 6, 2) := dk_16 6 (dk_at dksX7_init_2 14 rfl rfl)
theorem dX7_init_63 : decode cX7_init 63 = .ok (.newarray .int, 2) := dk_188_10 (dk_at dksX7_init_2 16 rfl rfl)
theorem dX7_init_65 : decode cX7_init 65 = .ok (.putfield 33, 3) := dk_181 0 33 (dk_at dksX7_init_2 18 rfl rfl)
theorem dX7_init_68 : decode cX7_init 68 = .ok (.aload_n 0, 1) := dk_42 (dk_at dksX7_init_2 21 rfl rfl)
theorem dX7_init_69 : decode cX7_init 69 = .ok (.bipush 64, 2) := dk_16 64 (dk_at dksX7_init_2 22 rfl rfl)
theorem dX7_init_71 : decode cX7_init 71 = .ok (.newarray .int, 2) := dk_188_10 (dk_at dksX7_init_3 0 rfl rfl)
theorem dX7_init_73 : decode cX7_init 73 = .ok (.putfield 36, 3) := dk_181 0 36 (dk_at dksX7_init_3 2 rfl rfl)
theorem dX7_init_76 : decode cX7_init 76 = .ok (.aload_n 0, 1) := dk_42 (dk_at dksX7_init_3 5 rfl rfl)
theorem dX7_init_77 : decode cX7_init 77 = .ok (.bipush 64, 2) := dk_16 64 (dk_at dksX7_init_3 6 rfl rfl)
theorem dX7_init_79 : decode cX7_init 79 = .ok (.newarray .int, 2) := dk_188_10 (dk_at dksX7_init_3 8 rfl rfl)
theorem dX7_init_81 : decode cX7_init 81 = .ok (.putfield 39, 3) := dk_181 0 39 (dk_at dksX7_init_3 10 rfl rfl)
theorem dX7_init_84 : decode cX7_init 84 = .ok (.aload_n 0, 1) := dk_42 (dk_at dksX7_init_3 13 rfl rfl)
theorem dX7_init_85 : decode cX7_init 85 = .ok (.iconst 3, 1) := dk_6 (dk_at dksX7_init_3 14 rfl rfl)
theorem dX7_init_86 : decode cX7_init 86 = .ok (.newarray .int, 2) := dk_188_10 (dk_at dksX7_init_3 15 rfl rfl)
theorem dX7_init_88 : decode cX7_init 88 = .ok (.putfield 42, 3) := dk_181 0 42 (dk_at dksX7_init_3 17 rfl rfl)
theorem dX7_init_91 : decode cX7_init 91 = .ok (.aload_n 0, 1) := dk_42 (dk_at dksX7_init_3 20 rfl rfl)
theorem dX7_init_92 : decode cX7_init 92 = .ok (.bipush 21, 2) := dk_16 21 (dk_at dksX7_init_3 21 rfl rfl)
theorem dX7_init_94 : decode cX7_init 94 = .ok (.newarray .int, 2) := dk_188_10 (dk_at dksX7_init_4 0 rfl rfl)
theorem dX7_init_96 : decode cX7_init 96 = .ok (.putfield 45, 3) := dk_181 0 45 (dk_at dksX7_init_4 2 rfl rfl)
theorem dX7_init_99 : decode cX7_init 99 = .ok (.aload_n 0, 1) := dk_42 (dk_at dksX7_init_4 5 rfl rfl)
theorem dX7_init_100 : decode cX7_init 100 = .ok (.bipush 36, 2) := dk_16 36 (dk_at dksX7_init_4 6 rfl rfl)
theorem dX7_init_102 : decode cX7_init 102 = .ok (.newarray .int, 2) := dk_188_10 (dk_at dksX7_init_4 8 rfl rfl)
theorem dX7_init_104 : decode cX7_init 104 = .ok (.putfield 48, 3) := dk_181 0 48 (dk_at dksX7_init_4 10 rfl rfl)
theorem dX7_init_107 : decode cX7_init 107 = .ok (.return_, 1) := dk_177 (dk_at dksX7_init_4 13 rfl rfl)
abbrev cX7_thrown : ByteArray := prog_14_method_2_code
def yX7_thrown : MethodName := ⟨RX7, "thrown", "()I"⟩
theorem dX7_thrown_0 : decode cX7_thrown 0 = .ok (.aload_n 0, 1) := by decide +kernel
theorem dX7_thrown_1 : decode cX7_thrown 1 = .ok (.getfield 51, 3) := by decide +kernel
theorem dX7_thrown_4 : decode cX7_thrown 4 = .ok (.ireturn, 1) := by decide +kernel
abbrev cX7_feed : ByteArray := prog_14_method_34_code
def yX7_feed : MethodName := ⟨RX7, "feed", "(IIIII)I"⟩
def dkwX7_feed_5 : List UInt8 := [180, 1, 17, 172]
abbrev dktX7_feed_5 : List UInt8 := dkwX7_feed_5 ++ []
def dkwX7_feed_4 : List UInt8 := [112, 104, 100, 122, 145, 84, 42, 89, 180, 1, 17, 4, 96, 181, 1, 17, 132, 6, 1, 167, 255, 165, 42]
abbrev dktX7_feed_4 : List UInt8 := dkwX7_feed_4 ++ dktX7_feed_5
def dkwX7_feed_3 : List UInt8 := [167, 0, 5, 21, 5, 54, 7, 42, 180, 0, 13, 42, 180, 1, 17, 21, 7, 16, 24, 16, 8, 21, 6, 7]
abbrev dktX7_feed_3 : List UInt8 := dkwX7_feed_3 ++ dktX7_feed_4
def dkwX7_feed_2 : List UInt8 := [28, 167, 0, 28, 21, 6, 16, 12, 162, 0, 7, 29, 167, 0, 17, 21, 6, 16, 16, 162, 0, 8, 21, 4]
abbrev dktX7_feed_2 : List UInt8 := dkwX7_feed_2 ++ dktX7_feed_3
def dkwX7_feed_1 : List UInt8 := [21, 6, 16, 20, 162, 0, 90, 21, 6, 7, 162, 0, 7, 27, 167, 0, 39, 21, 6, 16, 8, 162, 0, 7]
abbrev dktX7_feed_1 : List UInt8 := dkwX7_feed_1 ++ dktX7_feed_2
def dkwX7_feed_0 : List UInt8 := [42, 3, 181, 0, 51, 42, 180, 1, 17, 16, 20, 96, 17, 3, 132, 164, 0, 5, 2, 172, 3, 54, 6]
abbrev dktX7_feed_0 : List UInt8 := dkwX7_feed_0 ++ dktX7_feed_1
theorem dksX7_feed_0 : cX7_feed.data.toList.drop 0 = dktX7_feed_0 := by decide +kernel
theorem dksX7_feed_1 : cX7_feed.data.toList.drop 23 = dktX7_feed_1 := dk_seg dksX7_feed_0 23 rfl rfl
theorem dksX7_feed_2 : cX7_feed.data.toList.drop 47 = dktX7_feed_2 := dk_seg dksX7_feed_1 24 rfl rfl
theorem dksX7_feed_3 : cX7_feed.data.toList.drop 71 = dktX7_feed_3 := dk_seg dksX7_feed_2 24 rfl rfl
theorem dksX7_feed_4 : cX7_feed.data.toList.drop 95 = dktX7_feed_4 := dk_seg dksX7_feed_3 24 rfl rfl
theorem dksX7_feed_5 : cX7_feed.data.toList.drop 118 = dktX7_feed_5 := dk_seg dksX7_feed_4 23 rfl rfl
theorem dX7_feed_0 : decode cX7_feed 0 = .ok (.aload_n 0, 1) := dk_42 (dk_at dksX7_feed_0 0 rfl rfl)
theorem dX7_feed_1 : decode cX7_feed 1 = .ok (.iconst 0, 1) := dk_3 (dk_at dksX7_feed_0 1 rfl rfl)
theorem dX7_feed_2 : decode cX7_feed 2 = .ok (.putfield 51, 3) := dk_181 0 51 (dk_at dksX7_feed_0 2 rfl rfl)
theorem dX7_feed_5 : decode cX7_feed 5 = .ok (.aload_n 0, 1) := dk_42 (dk_at dksX7_feed_0 5 rfl rfl)
theorem dX7_feed_6 : decode cX7_feed 6 = .ok (.getfield 273, 3) := dk_180 1 17 (dk_at dksX7_feed_0 6 rfl rfl)
theorem dX7_feed_9 : decode cX7_feed 9 = .ok (.bipush 20, 2) := dk_16 20 (dk_at dksX7_feed_0 9 rfl rfl)
theorem dX7_feed_11 : decode cX7_feed 11 = .ok (.iadd, 1) := dk_96 (dk_at dksX7_feed_0 11 rfl rfl)
theorem dX7_feed_12 : decode cX7_feed 12 = .ok (.sipush 900, 3) := dk_17 3 132 (dk_at dksX7_feed_0 12 rfl rfl)
theorem dX7_feed_15 : decode cX7_feed 15 = .ok (.if_icmp .le 5, 3) := dk_164 0 5 (dk_at dksX7_feed_0 15 rfl rfl)
theorem dX7_feed_18 : decode cX7_feed 18 = .ok (.iconst (-1), 1) := dk_2 (dk_at dksX7_feed_0 18 rfl rfl)
theorem dX7_feed_19 : decode cX7_feed 19 = .ok (.ireturn, 1) := dk_172 (dk_at dksX7_feed_0 19 rfl rfl)
theorem dX7_feed_20 : decode cX7_feed 20 = .ok (.iconst 0, 1) := dk_3 (dk_at dksX7_feed_0 20 rfl rfl)
theorem dX7_feed_21 : decode cX7_feed 21 = .ok (.istore 6, 2) := dk_54 6 (dk_at dksX7_feed_0 21 rfl rfl)
theorem dX7_feed_23 : decode cX7_feed 23 = .ok (.iload 6, 2) := dk_21 6 (dk_at dksX7_feed_1 0 rfl rfl)
theorem dX7_feed_25 : decode cX7_feed 25 = .ok (.bipush 20, 2) := dk_16 20 (dk_at dksX7_feed_1 2 rfl rfl)
theorem dX7_feed_27 : decode cX7_feed 27 = .ok (.if_icmp .ge 90, 3) := dk_162 0 90 (dk_at dksX7_feed_1 4 rfl rfl)
theorem dX7_feed_30 : decode cX7_feed 30 = .ok (.iload 6, 2) := dk_21 6 (dk_at dksX7_feed_1 7 rfl rfl)
theorem dX7_feed_32 : decode cX7_feed 32 = .ok (.iconst 4, 1) := dk_7 (dk_at dksX7_feed_1 9 rfl rfl)
theorem dX7_feed_33 : decode cX7_feed 33 = .ok (.if_icmp .ge 7, 3) := dk_162 0 7 (dk_at dksX7_feed_1 10 rfl rfl)
theorem dX7_feed_36 : decode cX7_feed 36 = .ok (.iload_n 1, 1) := dk_27 (dk_at dksX7_feed_1 13 rfl rfl)
theorem dX7_feed_37 : decode cX7_feed 37 = .ok (.goto 39, 3) := dk_167 0 39 (dk_at dksX7_feed_1 14 rfl rfl)
theorem dX7_feed_40 : decode cX7_feed 40 = .ok (.iload 6, 2) := dk_21 6 (dk_at dksX7_feed_1 17 rfl rfl)
theorem dX7_feed_42 : decode cX7_feed 42 = .ok (.bipush 8, 2) := dk_16 8 (dk_at dksX7_feed_1 19 rfl rfl)
theorem dX7_feed_44 : decode cX7_feed 44 = .ok (.if_icmp .ge 7, 3) := dk_162 0 7 (dk_at dksX7_feed_1 21 rfl rfl)
theorem dX7_feed_47 : decode cX7_feed 47 = .ok (.iload_n 2, 1) := dk_28 (dk_at dksX7_feed_2 0 rfl rfl)
theorem dX7_feed_48 : decode cX7_feed 48 = .ok (.goto 28, 3) := dk_167 0 28 (dk_at dksX7_feed_2 1 rfl rfl)
theorem dX7_feed_51 : decode cX7_feed 51 = .ok (.iload 6, 2) := dk_21 6 (dk_at dksX7_feed_2 4 rfl rfl)
theorem dX7_feed_53 : decode cX7_feed 53 = .ok (.bipush 12, 2) := dk_16 12 (dk_at dksX7_feed_2 6 rfl rfl)
theorem dX7_feed_55 : decode cX7_feed 55 = .ok (.if_icmp .ge 7, 3) := dk_162 0 7 (dk_at dksX7_feed_2 8 rfl rfl)
theorem dX7_feed_58 : decode cX7_feed 58 = .ok (.iload_n 3, 1) := dk_29 (dk_at dksX7_feed_2 11 rfl rfl)
theorem dX7_feed_59 : decode cX7_feed 59 = .ok (.goto 17, 3) := dk_167 0 17 (dk_at dksX7_feed_2 12 rfl rfl)
theorem dX7_feed_62 : decode cX7_feed 62 = .ok (.iload 6, 2) := dk_21 6 (dk_at dksX7_feed_2 15 rfl rfl)
theorem dX7_feed_64 : decode cX7_feed 64 = .ok (.bipush 16, 2) := dk_16 16 (dk_at dksX7_feed_2 17 rfl rfl)
theorem dX7_feed_66 : decode cX7_feed 66 = .ok (.if_icmp .ge 8, 3) := dk_162 0 8 (dk_at dksX7_feed_2 19 rfl rfl)
theorem dX7_feed_69 : decode cX7_feed 69 = .ok (.iload 4, 2) := dk_21 4 (dk_at dksX7_feed_2 22 rfl rfl)
theorem dX7_feed_71 : decode cX7_feed 71 = .ok (.goto 5, 3) := dk_167 0 5 (dk_at dksX7_feed_3 0 rfl rfl)
theorem dX7_feed_74 : decode cX7_feed 74 = .ok (.iload 5, 2) := dk_21 5 (dk_at dksX7_feed_3 3 rfl rfl)
theorem dX7_feed_76 : decode cX7_feed 76 = .ok (.istore 7, 2) := dk_54 7 (dk_at dksX7_feed_3 5 rfl rfl)
theorem dX7_feed_78 : decode cX7_feed 78 = .ok (.aload_n 0, 1) := dk_42 (dk_at dksX7_feed_3 7 rfl rfl)
theorem dX7_feed_79 : decode cX7_feed 79 = .ok (.getfield 13, 3) := dk_180 0 13 (dk_at dksX7_feed_3 8 rfl rfl)
theorem dX7_feed_82 : decode cX7_feed 82 = .ok (.aload_n 0, 1) := dk_42 (dk_at dksX7_feed_3 11 rfl rfl)
theorem dX7_feed_83 : decode cX7_feed 83 = .ok (.getfield 273, 3) := dk_180 1 17 (dk_at dksX7_feed_3 12 rfl rfl)
theorem dX7_feed_86 : decode cX7_feed 86 = .ok (.iload 7, 2) := dk_21 7 (dk_at dksX7_feed_3 15 rfl rfl)
theorem dX7_feed_88 : decode cX7_feed 88 = .ok (.bipush 24, 2) := dk_16 24 (dk_at dksX7_feed_3 17 rfl rfl)
theorem dX7_feed_90 : decode cX7_feed 90 = .ok (.bipush 8, 2) := dk_16 8 (dk_at dksX7_feed_3 19 rfl rfl)
theorem dX7_feed_92 : decode cX7_feed 92 = .ok (.iload 6, 2) := dk_21 6 (dk_at dksX7_feed_3 21 rfl rfl)
theorem dX7_feed_94 : decode cX7_feed 94 = .ok (.iconst 4, 1) := dk_7 (dk_at dksX7_feed_3 23 rfl rfl)
theorem dX7_feed_95 : decode cX7_feed 95 = .ok (.irem, 1) := dk_112 (dk_at dksX7_feed_4 0 rfl rfl)
theorem dX7_feed_96 : decode cX7_feed 96 = .ok (.imul, 1) := dk_104 (dk_at dksX7_feed_4 1 rfl rfl)
theorem dX7_feed_97 : decode cX7_feed 97 = .ok (.isub, 1) := dk_100 (dk_at dksX7_feed_4 2 rfl rfl)
theorem dX7_feed_98 : decode cX7_feed 98 = .ok (.ishr, 1) := dk_122 (dk_at dksX7_feed_4 3 rfl rfl)
theorem dX7_feed_99 : decode cX7_feed 99 = .ok (.i2b, 1) := dk_145 (dk_at dksX7_feed_4 4 rfl rfl)
theorem dX7_feed_100 : decode cX7_feed 100 = .ok (.bastore, 1) := dk_84 (dk_at dksX7_feed_4 5 rfl rfl)
theorem dX7_feed_101 : decode cX7_feed 101 = .ok (.aload_n 0, 1) := dk_42 (dk_at dksX7_feed_4 6 rfl rfl)
theorem dX7_feed_102 : decode cX7_feed 102 = .ok (.dup, 1) := dk_89 (dk_at dksX7_feed_4 7 rfl rfl)
theorem dX7_feed_103 : decode cX7_feed 103 = .ok (.getfield 273, 3) := dk_180 1 17 (dk_at dksX7_feed_4 8 rfl rfl)
theorem dX7_feed_106 : decode cX7_feed 106 = .ok (.iconst 1, 1) := dk_4 (dk_at dksX7_feed_4 11 rfl rfl)
theorem dX7_feed_107 : decode cX7_feed 107 = .ok (.iadd, 1) := dk_96 (dk_at dksX7_feed_4 12 rfl rfl)
theorem dX7_feed_108 : decode cX7_feed 108 = .ok (.putfield 273, 3) := dk_181 1 17 (dk_at dksX7_feed_4 13 rfl rfl)
theorem dX7_feed_111 : decode cX7_feed 111 = .ok (.iinc 6 1, 3) := dk_132 6 1 (dk_at dksX7_feed_4 16 rfl rfl)
theorem dX7_feed_114 : decode cX7_feed 114 = .ok (.goto (-91), 3) := dk_167 255 165 (dk_at dksX7_feed_4 19 rfl rfl)
theorem dX7_feed_117 : decode cX7_feed 117 = .ok (.aload_n 0, 1) := dk_42 (dk_at dksX7_feed_4 22 rfl rfl)
theorem dX7_feed_118 : decode cX7_feed 118 = .ok (.getfield 273, 3) := dk_180 1 17 (dk_at dksX7_feed_5 0 rfl rfl)
theorem dX7_feed_121 : decode cX7_feed 121 = .ok (.ireturn, 1) := dk_172 (dk_at dksX7_feed_5 3 rfl rfl)
abbrev cX7_city : ByteArray := prog_14_method_35_code
def yX7_city : MethodName := ⟨RX7, "city", "(I)I"⟩
def dkwX7_city_6 : List UInt8 := [180, 0, 170, 182, 0, 61, 172]
abbrev dktX7_city_6 : List UInt8 := dkwX7_city_6 ++ []
def dkwX7_city_5 : List UInt8 := [28, 46, 79, 132, 2, 1, 167, 255, 235, 42, 3, 181, 1, 29, 42, 3, 181, 1, 32, 42, 42, 180, 1, 24]
abbrev dktX7_city_5 : List UInt8 := dkwX7_city_5 ++ dktX7_city_6
def dkwX7_city_4 : List UInt8 := [181, 1, 24, 42, 182, 1, 26, 3, 61, 28, 16, 47, 162, 0, 21, 42, 180, 0, 17, 28, 42, 180, 0, 21]
abbrev dktX7_city_4 : List UInt8 := dkwX7_city_4 ++ dktX7_city_5
def dkwX7_city_3 : List UInt8 := [158, 0, 18, 42, 7, 181, 0, 54, 42, 42, 180, 0, 112, 181, 0, 9, 2, 172, 42, 42, 180, 0, 148]
abbrev dktX7_city_3 : List UInt8 := dkwX7_city_3 ++ dktX7_city_4
def dkwX7_city_2 : List UInt8 := [183, 1, 20, 181, 0, 148, 42, 3, 181, 0, 83, 42, 182, 0, 119, 42, 182, 1, 21, 42, 180, 0, 109]
abbrev dktX7_city_2 : List UInt8 := dkwX7_city_2 ++ dktX7_city_3
def dkwX7_city_1 : List UInt8 := [27, 181, 0, 68, 42, 3, 181, 1, 17, 42, 3, 181, 0, 86, 42, 3, 181, 0, 109, 42, 187, 0, 153, 89]
abbrev dktX7_city_1 : List UInt8 := dkwX7_city_1 ++ dktX7_city_2
def dkwX7_city_0 : List UInt8 := [42, 3, 181, 0, 51, 27, 155, 0, 11, 27, 42, 180, 1, 17, 164, 0, 9, 42, 5, 182, 0, 57, 172, 42]
abbrev dktX7_city_0 : List UInt8 := dkwX7_city_0 ++ dktX7_city_1
theorem dksX7_city_0 : cX7_city.data.toList.drop 0 = dktX7_city_0 := by decide +kernel
theorem dksX7_city_1 : cX7_city.data.toList.drop 24 = dktX7_city_1 := dk_seg dksX7_city_0 24 rfl rfl
theorem dksX7_city_2 : cX7_city.data.toList.drop 48 = dktX7_city_2 := dk_seg dksX7_city_1 24 rfl rfl
theorem dksX7_city_3 : cX7_city.data.toList.drop 71 = dktX7_city_3 := dk_seg dksX7_city_2 23 rfl rfl
theorem dksX7_city_4 : cX7_city.data.toList.drop 94 = dktX7_city_4 := dk_seg dksX7_city_3 23 rfl rfl
theorem dksX7_city_5 : cX7_city.data.toList.drop 118 = dktX7_city_5 := dk_seg dksX7_city_4 24 rfl rfl
theorem dksX7_city_6 : cX7_city.data.toList.drop 142 = dktX7_city_6 := dk_seg dksX7_city_5 24 rfl rfl
theorem dX7_city_0 : decode cX7_city 0 = .ok (.aload_n 0, 1) := dk_42 (dk_at dksX7_city_0 0 rfl rfl)
theorem dX7_city_1 : decode cX7_city 1 = .ok (.iconst 0, 1) := dk_3 (dk_at dksX7_city_0 1 rfl rfl)
theorem dX7_city_2 : decode cX7_city 2 = .ok (.putfield 51, 3) := dk_181 0 51 (dk_at dksX7_city_0 2 rfl rfl)
theorem dX7_city_5 : decode cX7_city 5 = .ok (.iload_n 1, 1) := dk_27 (dk_at dksX7_city_0 5 rfl rfl)
theorem dX7_city_6 : decode cX7_city 6 = .ok (.ifCond .lt 11, 3) := dk_155 0 11 (dk_at dksX7_city_0 6 rfl rfl)
theorem dX7_city_9 : decode cX7_city 9 = .ok (.iload_n 1, 1) := dk_27 (dk_at dksX7_city_0 9 rfl rfl)
theorem dX7_city_10 : decode cX7_city 10 = .ok (.aload_n 0, 1) := dk_42 (dk_at dksX7_city_0 10 rfl rfl)
theorem dX7_city_11 : decode cX7_city 11 = .ok (.getfield 273, 3) := dk_180 1 17 (dk_at dksX7_city_0 11 rfl rfl)
theorem dX7_city_14 : decode cX7_city 14 = .ok (.if_icmp .le 9, 3) := dk_164 0 9 (dk_at dksX7_city_0 14 rfl rfl)
theorem dX7_city_17 : decode cX7_city 17 = .ok (.aload_n 0, 1) := dk_42 (dk_at dksX7_city_0 17 rfl rfl)
theorem dX7_city_18 : decode cX7_city 18 = .ok (.iconst 2, 1) := dk_5 (dk_at dksX7_city_0 18 rfl rfl)
theorem dX7_city_19 : decode cX7_city 19 = .ok (.invokevirtual 57, 3) := dk_182 0 57 (dk_at dksX7_city_0 19 rfl rfl)
theorem dX7_city_22 : decode cX7_city 22 = .ok (.ireturn, 1) := dk_172 (dk_at dksX7_city_0 22 rfl rfl)
theorem dX7_city_23 : decode cX7_city 23 = .ok (.aload_n 0, 1) := dk_42 (dk_at dksX7_city_0 23 rfl rfl)
theorem dX7_city_24 : decode cX7_city 24 = .ok (.iload_n 1, 1) := dk_27 (dk_at dksX7_city_1 0 rfl rfl)
theorem dX7_city_25 : decode cX7_city 25 = .ok (.putfield 68, 3) := dk_181 0 68 (dk_at dksX7_city_1 1 rfl rfl)
theorem dX7_city_28 : decode cX7_city 28 = .ok (.aload_n 0, 1) := dk_42 (dk_at dksX7_city_1 4 rfl rfl)
theorem dX7_city_29 : decode cX7_city 29 = .ok (.iconst 0, 1) := dk_3 (dk_at dksX7_city_1 5 rfl rfl)
theorem dX7_city_30 : decode cX7_city 30 = .ok (.putfield 273, 3) := dk_181 1 17 (dk_at dksX7_city_1 6 rfl rfl)
theorem dX7_city_33 : decode cX7_city 33 = .ok (.aload_n 0, 1) := dk_42 (dk_at dksX7_city_1 9 rfl rfl)
theorem dX7_city_34 : decode cX7_city 34 = .ok (.iconst 0, 1) := dk_3 (dk_at dksX7_city_1 10 rfl rfl)
theorem dX7_city_35 : decode cX7_city 35 = .ok (.putfield 86, 3) := dk_181 0 86 (dk_at dksX7_city_1 11 rfl rfl)
theorem dX7_city_38 : decode cX7_city 38 = .ok (.aload_n 0, 1) := dk_42 (dk_at dksX7_city_1 14 rfl rfl)
theorem dX7_city_39 : decode cX7_city 39 = .ok (.iconst 0, 1) := dk_3 (dk_at dksX7_city_1 15 rfl rfl)
theorem dX7_city_40 : decode cX7_city 40 = .ok (.putfield 109, 3) := dk_181 0 109 (dk_at dksX7_city_1 16 rfl rfl)
theorem dX7_city_43 : decode cX7_city 43 = .ok (.aload_n 0, 1) := dk_42 (dk_at dksX7_city_1 19 rfl rfl)
theorem dX7_city_44 : decode cX7_city 44 = .ok (.new 153, 3) := dk_187 0 153 (dk_at dksX7_city_1 20 rfl rfl)
theorem dX7_city_47 : decode cX7_city 47 = .ok (.dup, 1) := dk_89 (dk_at dksX7_city_1 23 rfl rfl)
theorem dX7_city_48 : decode cX7_city 48 = .ok (.invokespecial 276, 3) := dk_183 1 20 (dk_at dksX7_city_2 0 rfl rfl)
theorem dX7_city_51 : decode cX7_city 51 = .ok (.putfield 148, 3) := dk_181 0 148 (dk_at dksX7_city_2 3 rfl rfl)
theorem dX7_city_54 : decode cX7_city 54 = .ok (.aload_n 0, 1) := dk_42 (dk_at dksX7_city_2 6 rfl rfl)
theorem dX7_city_55 : decode cX7_city 55 = .ok (.iconst 0, 1) := dk_3 (dk_at dksX7_city_2 7 rfl rfl)
theorem dX7_city_56 : decode cX7_city 56 = .ok (.putfield 83, 3) := dk_181 0 83 (dk_at dksX7_city_2 8 rfl rfl)
theorem dX7_city_59 : decode cX7_city 59 = .ok (.aload_n 0, 1) := dk_42 (dk_at dksX7_city_2 11 rfl rfl)
theorem dX7_city_60 : decode cX7_city 60 = .ok (.invokevirtual 119, 3) := dk_182 0 119 (dk_at dksX7_city_2 12 rfl rfl)
theorem dX7_city_63 : decode cX7_city 63 = .ok (.aload_n 0, 1) := dk_42 (dk_at dksX7_city_2 15 rfl rfl)
theorem dX7_city_64 : decode cX7_city 64 = .ok (.invokevirtual 277, 3) := dk_182 1 21 (dk_at dksX7_city_2 16 rfl rfl)
theorem dX7_city_67 : decode cX7_city 67 = .ok (.aload_n 0, 1) := dk_42 (dk_at dksX7_city_2 19 rfl rfl)
theorem dX7_city_68 : decode cX7_city 68 = .ok (.getfield 109, 3) := dk_180 0 109 (dk_at dksX7_city_2 20 rfl rfl)
theorem dX7_city_71 : decode cX7_city 71 = .ok (.ifCond .le 18, 3) := dk_158 0 18 (dk_at dksX7_city_3 0 rfl rfl)
theorem dX7_city_74 : decode cX7_city 74 = .ok (.aload_n 0, 1) := dk_42 (dk_at dksX7_city_3 3 rfl rfl)
theorem dX7_city_75 : decode cX7_city 75 = .ok (.iconst 4, 1) := dk_7 (dk_at dksX7_city_3 4 rfl rfl)
theorem dX7_city_76 : decode cX7_city 76 = .ok (.putfield 54, 3) := dk_181 0 54 (dk_at dksX7_city_3 5 rfl rfl)
theorem dX7_city_79 : decode cX7_city 79 = .ok (.aload_n 0, 1) := dk_42 (dk_at dksX7_city_3 8 rfl rfl)
theorem dX7_city_80 : decode cX7_city 80 = .ok (.aload_n 0, 1) := dk_42 (dk_at dksX7_city_3 9 rfl rfl)
theorem dX7_city_81 : decode cX7_city 81 = .ok (.getfield 112, 3) := dk_180 0 112 (dk_at dksX7_city_3 10 rfl rfl)
theorem dX7_city_84 : decode cX7_city 84 = .ok (.putfield 9, 3) := dk_181 0 9 (dk_at dksX7_city_3 13 rfl rfl)
theorem dX7_city_87 : decode cX7_city 87 = .ok (.iconst (-1), 1) := dk_2 (dk_at dksX7_city_3 16 rfl rfl)
theorem dX7_city_88 : decode cX7_city 88 = .ok (.ireturn, 1) := dk_172 (dk_at dksX7_city_3 17 rfl rfl)
theorem dX7_city_89 : decode cX7_city 89 = .ok (.aload_n 0, 1) := dk_42 (dk_at dksX7_city_3 18 rfl rfl)
theorem dX7_city_90 : decode cX7_city 90 = .ok (.aload_n 0, 1) := dk_42 (dk_at dksX7_city_3 19 rfl rfl)
theorem dX7_city_91 : decode cX7_city 91 = .ok (.getfield 148, 3) := dk_180 0 148 (dk_at dksX7_city_3 20 rfl rfl)
theorem dX7_city_94 : decode cX7_city 94 = .ok (.putfield 280, 3) := dk_181 1 24 (dk_at dksX7_city_4 0 rfl rfl)
theorem dX7_city_97 : decode cX7_city 97 = .ok (.aload_n 0, 1) := dk_42 (dk_at dksX7_city_4 3 rfl rfl)
theorem dX7_city_98 : decode cX7_city 98 = .ok (.invokevirtual 282, 3) := dk_182 1 26 (dk_at dksX7_city_4 4 rfl rfl)
theorem dX7_city_101 : decode cX7_city 101 = .ok (.iconst 0, 1) := dk_3 (dk_at dksX7_city_4 7 rfl rfl)
theorem dX7_city_102 : decode cX7_city 102 = .ok (.istore_n 2, 1) := dk_61 (dk_at dksX7_city_4 8 rfl rfl)
theorem dX7_city_103 : decode cX7_city 103 = .ok (.iload_n 2, 1) := dk_28 (dk_at dksX7_city_4 9 rfl rfl)
theorem dX7_city_104 : decode cX7_city 104 = .ok (.bipush 47, 2) := dk_16 47 (dk_at dksX7_city_4 10 rfl rfl)
theorem dX7_city_106 : decode cX7_city 106 = .ok (.if_icmp .ge 21, 3) := dk_162 0 21 (dk_at dksX7_city_4 12 rfl rfl)
theorem dX7_city_109 : decode cX7_city 109 = .ok (.aload_n 0, 1) := dk_42 (dk_at dksX7_city_4 15 rfl rfl)
theorem dX7_city_110 : decode cX7_city 110 = .ok (.getfield 17, 3) := dk_180 0 17 (dk_at dksX7_city_4 16 rfl rfl)
theorem dX7_city_113 : decode cX7_city 113 = .ok (.iload_n 2, 1) := dk_28 (dk_at dksX7_city_4 19 rfl rfl)
theorem dX7_city_114 : decode cX7_city 114 = .ok (.aload_n 0, 1) := dk_42 (dk_at dksX7_city_4 20 rfl rfl)
theorem dX7_city_115 : decode cX7_city 115 = .ok (.getfield 21, 3) := dk_180 0 21 (dk_at dksX7_city_4 21 rfl rfl)
theorem dX7_city_118 : decode cX7_city 118 = .ok (.iload_n 2, 1) := dk_28 (dk_at dksX7_city_5 0 rfl rfl)
theorem dX7_city_119 : decode cX7_city 119 = .ok (.iaload, 1) := dk_46 (dk_at dksX7_city_5 1 rfl rfl)
theorem dX7_city_120 : decode cX7_city 120 = .ok (.iastore, 1) := dk_79 (dk_at dksX7_city_5 2 rfl rfl)
theorem dX7_city_121 : decode cX7_city 121 = .ok (.iinc 2 1, 3) := dk_132 2 1 (dk_at dksX7_city_5 3 rfl rfl)
theorem dX7_city_124 : decode cX7_city 124 = .ok (.goto (-21), 3) := dk_167 255 235 (dk_at dksX7_city_5 6 rfl rfl)
theorem dX7_city_127 : decode cX7_city 127 = .ok (.aload_n 0, 1) := dk_42 (dk_at dksX7_city_5 9 rfl rfl)
theorem dX7_city_128 : decode cX7_city 128 = .ok (.iconst 0, 1) := dk_3 (dk_at dksX7_city_5 10 rfl rfl)
theorem dX7_city_129 : decode cX7_city 129 = .ok (.putfield 285, 3) := dk_181 1 29 (dk_at dksX7_city_5 11 rfl rfl)
theorem dX7_city_132 : decode cX7_city 132 = .ok (.aload_n 0, 1) := dk_42 (dk_at dksX7_city_5 14 rfl rfl)
theorem dX7_city_133 : decode cX7_city 133 = .ok (.iconst 0, 1) := dk_3 (dk_at dksX7_city_5 15 rfl rfl)
theorem dX7_city_134 : decode cX7_city 134 = .ok (.putfield 288, 3) := dk_181 1 32 (dk_at dksX7_city_5 16 rfl rfl)
theorem dX7_city_137 : decode cX7_city 137 = .ok (.aload_n 0, 1) := dk_42 (dk_at dksX7_city_5 19 rfl rfl)
theorem dX7_city_138 : decode cX7_city 138 = .ok (.aload_n 0, 1) := dk_42 (dk_at dksX7_city_5 20 rfl rfl)
theorem dX7_city_139 : decode cX7_city 139 = .ok (.getfield 280, 3) := dk_180 1 24 (dk_at dksX7_city_5 21 rfl rfl)
theorem dX7_city_142 : decode cX7_city 142 = .ok (.getfield 170, 3) := dk_180 0 170 (dk_at dksX7_city_6 0 rfl rfl)
theorem dX7_city_145 : decode cX7_city 145 = .ok (.invokevirtual 61, 3) := dk_182 0 61 (dk_at dksX7_city_6 3 rfl rfl)
theorem dX7_city_148 : decode cX7_city 148 = .ok (.ireturn, 1) := dk_172 (dk_at dksX7_city_6 6 rfl rfl)
abbrev cX7_refused : ByteArray := prog_14_method_3_code
def yX7_refused : MethodName := ⟨RX7, "refused", "(I)I"⟩
def dkwX7_refused_0 : List UInt8 := [42, 27, 181, 0, 54, 42, 2, 181, 0, 9, 2, 172]
abbrev dktX7_refused_0 : List UInt8 := dkwX7_refused_0 ++ []
theorem dksX7_refused_0 : cX7_refused.data.toList.drop 0 = dktX7_refused_0 := by decide +kernel
theorem dX7_refused_0 : decode cX7_refused 0 = .ok (.aload_n 0, 1) := dk_42 (dk_at dksX7_refused_0 0 rfl rfl)
theorem dX7_refused_1 : decode cX7_refused 1 = .ok (.iload_n 1, 1) := dk_27 (dk_at dksX7_refused_0 1 rfl rfl)
theorem dX7_refused_2 : decode cX7_refused 2 = .ok (.putfield 54, 3) := dk_181 0 54 (dk_at dksX7_refused_0 2 rfl rfl)
theorem dX7_refused_5 : decode cX7_refused 5 = .ok (.aload_n 0, 1) := dk_42 (dk_at dksX7_refused_0 5 rfl rfl)
theorem dX7_refused_6 : decode cX7_refused 6 = .ok (.iconst (-1), 1) := dk_2 (dk_at dksX7_refused_0 6 rfl rfl)
theorem dX7_refused_7 : decode cX7_refused 7 = .ok (.putfield 9, 3) := dk_181 0 9 (dk_at dksX7_refused_0 7 rfl rfl)
theorem dX7_refused_10 : decode cX7_refused 10 = .ok (.iconst (-1), 1) := dk_2 (dk_at dksX7_refused_0 10 rfl rfl)
theorem dX7_refused_11 : decode cX7_refused 11 = .ok (.ireturn, 1) := dk_172 (dk_at dksX7_refused_0 11 rfl rfl)
abbrev cX7_goesOn : ByteArray := prog_14_method_17_code
def yX7_goesOn : MethodName := ⟨RX7, "goesOn", "()V"⟩
def dkwX7_goesOn_11 : List UInt8 := [4, 96, 181, 0, 86, 177]
abbrev dktX7_goesOn_11 : List UInt8 := dkwX7_goesOn_11 ++ []
def dkwX7_goesOn_10 : List UInt8 := [42, 6, 181, 0, 83, 167, 0, 24, 27, 16, 59, 160, 0, 18, 42, 7, 181, 0, 83, 42, 89, 180, 0, 86]
abbrev dktX7_goesOn_10 : List UInt8 := dkwX7_goesOn_10 ++ dktX7_goesOn_11
def dkwX7_goesOn_9 : List UInt8 := [181, 0, 106, 132, 2, 1, 42, 89, 180, 0, 86, 4, 96, 181, 0, 86, 167, 255, 201, 28, 6, 163, 0, 32]
abbrev dktX7_goesOn_9 : List UInt8 := dkwX7_goesOn_9 ++ dktX7_goesOn_10
def dkwX7_goesOn_8 : List UInt8 := [162, 0, 26, 42, 16, 10, 42, 180, 0, 106, 104, 42, 42, 180, 0, 86, 182, 0, 89, 96, 16, 48, 100]
abbrev dktX7_goesOn_8 : List UInt8 := dkwX7_goesOn_8 ++ dktX7_goesOn_9
def dkwX7_goesOn_7 : List UInt8 := [153, 0, 79, 42, 3, 181, 0, 106, 42, 42, 180, 0, 86, 182, 0, 89, 184, 0, 103, 153, 0, 47, 28, 6]
abbrev dktX7_goesOn_7 : List UInt8 := dkwX7_goesOn_7 ++ dktX7_goesOn_8
def dkwX7_goesOn_6 : List UInt8 := [181, 0, 86, 167, 255, 196, 28, 16, 8, 163, 0, 115, 42, 5, 181, 0, 83, 167, 0, 107, 27, 184, 0, 103]
abbrev dktX7_goesOn_6 : List UInt8 := dkwX7_goesOn_6 ++ dktX7_goesOn_7
def dkwX7_goesOn_5 : List UInt8 := [182, 0, 89, 16, 97, 100, 4, 96, 133, 97, 181, 0, 99, 132, 2, 1, 42, 89, 180, 0, 86, 4, 96]
abbrev dktX7_goesOn_5 : List UInt8 := dkwX7_goesOn_5 ++ dktX7_goesOn_6
def dkwX7_goesOn_4 : List UInt8 := [153, 0, 52, 28, 16, 8, 162, 0, 30, 42, 20, 0, 77, 42, 180, 0, 99, 105, 42, 42, 180, 0, 86]
abbrev dktX7_goesOn_4 : List UInt8 := dkwX7_goesOn_4 ++ dktX7_goesOn_5
def dkwX7_goesOn_3 : List UInt8 := [27, 184, 0, 95, 153, 0, 85, 42, 9, 181, 0, 99, 42, 42, 180, 0, 86, 182, 0, 89, 184, 0, 95]
abbrev dktX7_goesOn_3 : List UInt8 := dkwX7_goesOn_3 ++ dktX7_goesOn_4
def dkwX7_goesOn_2 : List UInt8 := [42, 42, 180, 0, 86, 182, 0, 89, 60, 3, 61, 27, 2, 160, 0, 11, 42, 4, 181, 0, 83, 167, 0, 196]
abbrev dktX7_goesOn_2 : List UInt8 := dkwX7_goesOn_2 ++ dktX7_goesOn_3
def dkwX7_goesOn_1 : List UInt8 := [180, 0, 86, 4, 96, 181, 0, 86, 167, 255, 233, 42, 42, 180, 0, 86, 181, 0, 92, 42, 3, 181, 0, 83]
abbrev dktX7_goesOn_1 : List UInt8 := dkwX7_goesOn_1 ++ dktX7_goesOn_2
def dkwX7_goesOn_0 : List UInt8 := [42, 180, 0, 83, 8, 160, 0, 4, 177, 42, 42, 180, 0, 86, 182, 0, 89, 16, 32, 160, 0, 16, 42, 89]
abbrev dktX7_goesOn_0 : List UInt8 := dkwX7_goesOn_0 ++ dktX7_goesOn_1
theorem dksX7_goesOn_0 : cX7_goesOn.data.toList.drop 0 = dktX7_goesOn_0 := by decide +kernel
theorem dksX7_goesOn_1 : cX7_goesOn.data.toList.drop 24 = dktX7_goesOn_1 := dk_seg dksX7_goesOn_0 24 rfl rfl
theorem dksX7_goesOn_2 : cX7_goesOn.data.toList.drop 48 = dktX7_goesOn_2 := dk_seg dksX7_goesOn_1 24 rfl rfl
theorem dksX7_goesOn_3 : cX7_goesOn.data.toList.drop 72 = dktX7_goesOn_3 := dk_seg dksX7_goesOn_2 24 rfl rfl
theorem dksX7_goesOn_4 : cX7_goesOn.data.toList.drop 95 = dktX7_goesOn_4 := dk_seg dksX7_goesOn_3 23 rfl rfl
theorem dksX7_goesOn_5 : cX7_goesOn.data.toList.drop 118 = dktX7_goesOn_5 := dk_seg dksX7_goesOn_4 23 rfl rfl
theorem dksX7_goesOn_6 : cX7_goesOn.data.toList.drop 141 = dktX7_goesOn_6 := dk_seg dksX7_goesOn_5 23 rfl rfl
theorem dksX7_goesOn_7 : cX7_goesOn.data.toList.drop 165 = dktX7_goesOn_7 := dk_seg dksX7_goesOn_6 24 rfl rfl
theorem dksX7_goesOn_8 : cX7_goesOn.data.toList.drop 189 = dktX7_goesOn_8 := dk_seg dksX7_goesOn_7 24 rfl rfl
theorem dksX7_goesOn_9 : cX7_goesOn.data.toList.drop 212 = dktX7_goesOn_9 := dk_seg dksX7_goesOn_8 23 rfl rfl
theorem dksX7_goesOn_10 : cX7_goesOn.data.toList.drop 236 = dktX7_goesOn_10 := dk_seg dksX7_goesOn_9 24 rfl rfl
theorem dksX7_goesOn_11 : cX7_goesOn.data.toList.drop 260 = dktX7_goesOn_11 := dk_seg dksX7_goesOn_10 24 rfl rfl
theorem dX7_goesOn_0 : decode cX7_goesOn 0 = .ok (.aload_n 0, 1) := dk_42 (dk_at dksX7_goesOn_0 0 rfl rfl)
theorem dX7_goesOn_1 : decode cX7_goesOn 1 = .ok (.getfield 83, 3) := dk_180 0 83 (dk_at dksX7_goesOn_0 1 rfl rfl)
theorem dX7_goesOn_4 : decode cX7_goesOn 4 = .ok (.iconst 5, 1) := dk_8 (dk_at dksX7_goesOn_0 4 rfl rfl)
theorem dX7_goesOn_5 : decode cX7_goesOn 5 = .ok (.if_icmp .ne 4, 3) := dk_160 0 4 (dk_at dksX7_goesOn_0 5 rfl rfl)
theorem dX7_goesOn_8 : decode cX7_goesOn 8 = .ok (.return_, 1) := dk_177 (dk_at dksX7_goesOn_0 8 rfl rfl)
theorem dX7_goesOn_9 : decode cX7_goesOn 9 = .ok (.aload_n 0, 1) := dk_42 (dk_at dksX7_goesOn_0 9 rfl rfl)
theorem dX7_goesOn_10 : decode cX7_goesOn 10 = .ok (.aload_n 0, 1) := dk_42 (dk_at dksX7_goesOn_0 10 rfl rfl)
theorem dX7_goesOn_11 : decode cX7_goesOn 11 = .ok (.getfield 86, 3) := dk_180 0 86 (dk_at dksX7_goesOn_0 11 rfl rfl)
theorem dX7_goesOn_14 : decode cX7_goesOn 14 = .ok (.invokevirtual 89, 3) := dk_182 0 89 (dk_at dksX7_goesOn_0 14 rfl rfl)
theorem dX7_goesOn_17 : decode cX7_goesOn 17 = .ok (.bipush 32, 2) := dk_16 32 (dk_at dksX7_goesOn_0 17 rfl rfl)
theorem dX7_goesOn_19 : decode cX7_goesOn 19 = .ok (.if_icmp .ne 16, 3) := dk_160 0 16 (dk_at dksX7_goesOn_0 19 rfl rfl)
theorem dX7_goesOn_22 : decode cX7_goesOn 22 = .ok (.aload_n 0, 1) := dk_42 (dk_at dksX7_goesOn_0 22 rfl rfl)
theorem dX7_goesOn_23 : decode cX7_goesOn 23 = .ok (.dup, 1) := dk_89 (dk_at dksX7_goesOn_0 23 rfl rfl)
theorem dX7_goesOn_24 : decode cX7_goesOn 24 = .ok (.getfield 86, 3) := dk_180 0 86 (dk_at dksX7_goesOn_1 0 rfl rfl)
theorem dX7_goesOn_27 : decode cX7_goesOn 27 = .ok (.iconst 1, 1) := dk_4 (dk_at dksX7_goesOn_1 3 rfl rfl)
theorem dX7_goesOn_28 : decode cX7_goesOn 28 = .ok (.iadd, 1) := dk_96 (dk_at dksX7_goesOn_1 4 rfl rfl)
theorem dX7_goesOn_29 : decode cX7_goesOn 29 = .ok (.putfield 86, 3) := dk_181 0 86 (dk_at dksX7_goesOn_1 5 rfl rfl)
theorem dX7_goesOn_32 : decode cX7_goesOn 32 = .ok (.goto (-23), 3) := dk_167 255 233 (dk_at dksX7_goesOn_1 8 rfl rfl)
theorem dX7_goesOn_35 : decode cX7_goesOn 35 = .ok (.aload_n 0, 1) := dk_42 (dk_at dksX7_goesOn_1 11 rfl rfl)
theorem dX7_goesOn_36 : decode cX7_goesOn 36 = .ok (.aload_n 0, 1) := dk_42 (dk_at dksX7_goesOn_1 12 rfl rfl)
theorem dX7_goesOn_37 : decode cX7_goesOn 37 = .ok (.getfield 86, 3) := dk_180 0 86 (dk_at dksX7_goesOn_1 13 rfl rfl)
theorem dX7_goesOn_40 : decode cX7_goesOn 40 = .ok (.putfield 92, 3) := dk_181 0 92 (dk_at dksX7_goesOn_1 16 rfl rfl)
theorem dX7_goesOn_43 : decode cX7_goesOn 43 = .ok (.aload_n 0, 1) := dk_42 (dk_at dksX7_goesOn_1 19 rfl rfl)
theorem dX7_goesOn_44 : decode cX7_goesOn 44 = .ok (.iconst 0, 1) := dk_3 (dk_at dksX7_goesOn_1 20 rfl rfl)
theorem dX7_goesOn_45 : decode cX7_goesOn 45 = .ok (.putfield 83, 3) := dk_181 0 83 (dk_at dksX7_goesOn_1 21 rfl rfl)
theorem dX7_goesOn_48 : decode cX7_goesOn 48 = .ok (.aload_n 0, 1) := dk_42 (dk_at dksX7_goesOn_2 0 rfl rfl)
theorem dX7_goesOn_49 : decode cX7_goesOn 49 = .ok (.aload_n 0, 1) := dk_42 (dk_at dksX7_goesOn_2 1 rfl rfl)
theorem dX7_goesOn_50 : decode cX7_goesOn 50 = .ok (.getfield 86, 3) := dk_180 0 86 (dk_at dksX7_goesOn_2 2 rfl rfl)
theorem dX7_goesOn_53 : decode cX7_goesOn 53 = .ok (.invokevirtual 89, 3) := dk_182 0 89 (dk_at dksX7_goesOn_2 5 rfl rfl)
theorem dX7_goesOn_56 : decode cX7_goesOn 56 = .ok (.istore_n 1, 1) := dk_60 (dk_at dksX7_goesOn_2 8 rfl rfl)
theorem dX7_goesOn_57 : decode cX7_goesOn 57 = .ok (.iconst 0, 1) := dk_3 (dk_at dksX7_goesOn_2 9 rfl rfl)
theorem dX7_goesOn_58 : decode cX7_goesOn 58 = .ok (.istore_n 2, 1) := dk_61 (dk_at dksX7_goesOn_2 10 rfl rfl)
theorem dX7_goesOn_59 : decode cX7_goesOn 59 = .ok (.iload_n 1, 1) := dk_27 (dk_at dksX7_goesOn_2 11 rfl rfl)
theorem dX7_goesOn_60 : decode cX7_goesOn 60 = .ok (.iconst (-1), 1) := dk_2 (dk_at dksX7_goesOn_2 12 rfl rfl)
theorem dX7_goesOn_61 : decode cX7_goesOn 61 = .ok (.if_icmp .ne 11, 3) := dk_160 0 11 (dk_at dksX7_goesOn_2 13 rfl rfl)
theorem dX7_goesOn_64 : decode cX7_goesOn 64 = .ok (.aload_n 0, 1) := dk_42 (dk_at dksX7_goesOn_2 16 rfl rfl)
theorem dX7_goesOn_65 : decode cX7_goesOn 65 = .ok (.iconst 1, 1) := dk_4 (dk_at dksX7_goesOn_2 17 rfl rfl)
theorem dX7_goesOn_66 : decode cX7_goesOn 66 = .ok (.putfield 83, 3) := dk_181 0 83 (dk_at dksX7_goesOn_2 18 rfl rfl)
theorem dX7_goesOn_69 : decode cX7_goesOn 69 = .ok (.goto 196, 3) := dk_167 0 196 (dk_at dksX7_goesOn_2 21 rfl rfl)
theorem dX7_goesOn_72 : decode cX7_goesOn 72 = .ok (.iload_n 1, 1) := dk_27 (dk_at dksX7_goesOn_3 0 rfl rfl)
theorem dX7_goesOn_73 : decode cX7_goesOn 73 = .ok (.invokestatic 95, 3) := dk_184 0 95 (dk_at dksX7_goesOn_3 1 rfl rfl)
theorem dX7_goesOn_76 : decode cX7_goesOn 76 = .ok (.ifCond .eq 85, 3) := dk_153 0 85 (dk_at dksX7_goesOn_3 4 rfl rfl)
theorem dX7_goesOn_79 : decode cX7_goesOn 79 = .ok (.aload_n 0, 1) := dk_42 (dk_at dksX7_goesOn_3 7 rfl rfl)
theorem dX7_goesOn_80 : decode cX7_goesOn 80 = .ok (.lconst 0, 1) := dk_9 (dk_at dksX7_goesOn_3 8 rfl rfl)
theorem dX7_goesOn_81 : decode cX7_goesOn 81 = .ok (.putfield 99, 3) := dk_181 0 99 (dk_at dksX7_goesOn_3 9 rfl rfl)
theorem dX7_goesOn_84 : decode cX7_goesOn 84 = .ok (.aload_n 0, 1) := dk_42 (dk_at dksX7_goesOn_3 12 rfl rfl)
theorem dX7_goesOn_85 : decode cX7_goesOn 85 = .ok (.aload_n 0, 1) := dk_42 (dk_at dksX7_goesOn_3 13 rfl rfl)
theorem dX7_goesOn_86 : decode cX7_goesOn 86 = .ok (.getfield 86, 3) := dk_180 0 86 (dk_at dksX7_goesOn_3 14 rfl rfl)
theorem dX7_goesOn_89 : decode cX7_goesOn 89 = .ok (.invokevirtual 89, 3) := dk_182 0 89 (dk_at dksX7_goesOn_3 17 rfl rfl)
theorem dX7_goesOn_92 : decode cX7_goesOn 92 = .ok (.invokestatic 95, 3) := dk_184 0 95 (dk_at dksX7_goesOn_3 20 rfl rfl)
theorem dX7_goesOn_95 : decode cX7_goesOn 95 = .ok (.ifCond .eq 52, 3) := dk_153 0 52 (dk_at dksX7_goesOn_4 0 rfl rfl)
theorem dX7_goesOn_98 : decode cX7_goesOn 98 = .ok (.iload_n 2, 1) := dk_28 (dk_at dksX7_goesOn_4 3 rfl rfl)
theorem dX7_goesOn_99 : decode cX7_goesOn 99 = .ok (.bipush 8, 2) := dk_16 8 (dk_at dksX7_goesOn_4 4 rfl rfl)
theorem dX7_goesOn_101 : decode cX7_goesOn 101 = .ok (.if_icmp .ge 30, 3) := dk_162 0 30 (dk_at dksX7_goesOn_4 6 rfl rfl)
theorem dX7_goesOn_104 : decode cX7_goesOn 104 = .ok (.aload_n 0, 1) := dk_42 (dk_at dksX7_goesOn_4 9 rfl rfl)
theorem dX7_goesOn_105 : decode cX7_goesOn 105 = .ok (.ldc2_w 77, 3) := dk_20 0 77 (dk_at dksX7_goesOn_4 10 rfl rfl)
theorem dX7_goesOn_108 : decode cX7_goesOn 108 = .ok (.aload_n 0, 1) := dk_42 (dk_at dksX7_goesOn_4 13 rfl rfl)
theorem dX7_goesOn_109 : decode cX7_goesOn 109 = .ok (.getfield 99, 3) := dk_180 0 99 (dk_at dksX7_goesOn_4 14 rfl rfl)
theorem dX7_goesOn_112 : decode cX7_goesOn 112 = .ok (.lmul, 1) := dk_105 (dk_at dksX7_goesOn_4 17 rfl rfl)
theorem dX7_goesOn_113 : decode cX7_goesOn 113 = .ok (.aload_n 0, 1) := dk_42 (dk_at dksX7_goesOn_4 18 rfl rfl)
theorem dX7_goesOn_114 : decode cX7_goesOn 114 = .ok (.aload_n 0, 1) := dk_42 (dk_at dksX7_goesOn_4 19 rfl rfl)
theorem dX7_goesOn_115 : decode cX7_goesOn 115 = .ok (.getfield 86, 3) := dk_180 0 86 (dk_at dksX7_goesOn_4 20 rfl rfl)
theorem dX7_goesOn_118 : decode cX7_goesOn 118 = .ok (.invokevirtual 89, 3) := dk_182 0 89 (dk_at dksX7_goesOn_5 0 rfl rfl)
theorem dX7_goesOn_121 : decode cX7_goesOn 121 = .ok (.bipush 97, 2) := dk_16 97 (dk_at dksX7_goesOn_5 3 rfl rfl)
theorem dX7_goesOn_123 : decode cX7_goesOn 123 = .ok (.isub, 1) := dk_100 (dk_at dksX7_goesOn_5 5 rfl rfl)
theorem dX7_goesOn_124 : decode cX7_goesOn 124 = .ok (.iconst 1, 1) := dk_4 (dk_at dksX7_goesOn_5 6 rfl rfl)
theorem dX7_goesOn_125 : decode cX7_goesOn 125 = .ok (.iadd, 1) := dk_96 (dk_at dksX7_goesOn_5 7 rfl rfl)
theorem dX7_goesOn_126 : decode cX7_goesOn 126 = .ok (.i2l, 1) := dk_133 (dk_at dksX7_goesOn_5 8 rfl rfl)
theorem dX7_goesOn_127 : decode cX7_goesOn 127 = .ok (.ladd, 1) := dk_97 (dk_at dksX7_goesOn_5 9 rfl rfl)
theorem dX7_goesOn_128 : decode cX7_goesOn 128 = .ok (.putfield 99, 3) := dk_181 0 99 (dk_at dksX7_goesOn_5 10 rfl rfl)
theorem dX7_goesOn_131 : decode cX7_goesOn 131 = .ok (.iinc 2 1, 3) := dk_132 2 1 (dk_at dksX7_goesOn_5 13 rfl rfl)
theorem dX7_goesOn_134 : decode cX7_goesOn 134 = .ok (.aload_n 0, 1) := dk_42 (dk_at dksX7_goesOn_5 16 rfl rfl)
theorem dX7_goesOn_135 : decode cX7_goesOn 135 = .ok (.dup, 1) := dk_89 (dk_at dksX7_goesOn_5 17 rfl rfl)
theorem dX7_goesOn_136 : decode cX7_goesOn 136 = .ok (.getfield 86, 3) := dk_180 0 86 (dk_at dksX7_goesOn_5 18 rfl rfl)
theorem dX7_goesOn_139 : decode cX7_goesOn 139 = .ok (.iconst 1, 1) := dk_4 (dk_at dksX7_goesOn_5 21 rfl rfl)
theorem dX7_goesOn_140 : decode cX7_goesOn 140 = .ok (.iadd, 1) := dk_96 (dk_at dksX7_goesOn_5 22 rfl rfl)
theorem dX7_goesOn_141 : decode cX7_goesOn 141 = .ok (.putfield 86, 3) := dk_181 0 86 (dk_at dksX7_goesOn_6 0 rfl rfl)
theorem dX7_goesOn_144 : decode cX7_goesOn 144 = .ok (.goto (-60), 3) := dk_167 255 196 (dk_at dksX7_goesOn_6 3 rfl rfl)
theorem dX7_goesOn_147 : decode cX7_goesOn 147 = .ok (.iload_n 2, 1) := dk_28 (dk_at dksX7_goesOn_6 6 rfl rfl)
theorem dX7_goesOn_148 : decode cX7_goesOn 148 = .ok (.bipush 8, 2) := dk_16 8 (dk_at dksX7_goesOn_6 7 rfl rfl)
theorem dX7_goesOn_150 : decode cX7_goesOn 150 = .ok (.if_icmp .gt 115, 3) := dk_163 0 115 (dk_at dksX7_goesOn_6 9 rfl rfl)
theorem dX7_goesOn_153 : decode cX7_goesOn 153 = .ok (.aload_n 0, 1) := dk_42 (dk_at dksX7_goesOn_6 12 rfl rfl)
theorem dX7_goesOn_154 : decode cX7_goesOn 154 = .ok (.iconst 2, 1) := dk_5 (dk_at dksX7_goesOn_6 13 rfl rfl)
theorem dX7_goesOn_155 : decode cX7_goesOn 155 = .ok (.putfield 83, 3) := dk_181 0 83 (dk_at dksX7_goesOn_6 14 rfl rfl)
theorem dX7_goesOn_158 : decode cX7_goesOn 158 = .ok (.goto 107, 3) := dk_167 0 107 (dk_at dksX7_goesOn_6 17 rfl rfl)
theorem dX7_goesOn_161 : decode cX7_goesOn 161 = .ok (.iload_n 1, 1) := dk_27 (dk_at dksX7_goesOn_6 20 rfl rfl)
theorem dX7_goesOn_162 : decode cX7_goesOn 162 = .ok (.invokestatic 103, 3) := dk_184 0 103 (dk_at dksX7_goesOn_6 21 rfl rfl)
theorem dX7_goesOn_165 : decode cX7_goesOn 165 = .ok (.ifCond .eq 79, 3) := dk_153 0 79 (dk_at dksX7_goesOn_7 0 rfl rfl)
theorem dX7_goesOn_168 : decode cX7_goesOn 168 = .ok (.aload_n 0, 1) := dk_42 (dk_at dksX7_goesOn_7 3 rfl rfl)
theorem dX7_goesOn_169 : decode cX7_goesOn 169 = .ok (.iconst 0, 1) := dk_3 (dk_at dksX7_goesOn_7 4 rfl rfl)
theorem dX7_goesOn_170 : decode cX7_goesOn 170 = .ok (.putfield 106, 3) := dk_181 0 106 (dk_at dksX7_goesOn_7 5 rfl rfl)
theorem dX7_goesOn_173 : decode cX7_goesOn 173 = .ok (.aload_n 0, 1) := dk_42 (dk_at dksX7_goesOn_7 8 rfl rfl)
theorem dX7_goesOn_174 : decode cX7_goesOn 174 = .ok (.aload_n 0, 1) := dk_42 (dk_at dksX7_goesOn_7 9 rfl rfl)
theorem dX7_goesOn_175 : decode cX7_goesOn 175 = .ok (.getfield 86, 3) := dk_180 0 86 (dk_at dksX7_goesOn_7 10 rfl rfl)
theorem dX7_goesOn_178 : decode cX7_goesOn 178 = .ok (.invokevirtual 89, 3) := dk_182 0 89 (dk_at dksX7_goesOn_7 13 rfl rfl)
theorem dX7_goesOn_181 : decode cX7_goesOn 181 = .ok (.invokestatic 103, 3) := dk_184 0 103 (dk_at dksX7_goesOn_7 16 rfl rfl)
theorem dX7_goesOn_184 : decode cX7_goesOn 184 = .ok (.ifCond .eq 47, 3) := dk_153 0 47 (dk_at dksX7_goesOn_7 19 rfl rfl)
theorem dX7_goesOn_187 : decode cX7_goesOn 187 = .ok (.iload_n 2, 1) := dk_28 (dk_at dksX7_goesOn_7 22 rfl rfl)
theorem dX7_goesOn_188 : decode cX7_goesOn 188 = .ok (.iconst 3, 1) := dk_6 (dk_at dksX7_goesOn_7 23 rfl rfl)
theorem dX7_goesOn_189 : decode cX7_goesOn 189 = .ok (.if_icmp .ge 26, 3) := dk_162 0 26 (dk_at dksX7_goesOn_8 0 rfl rfl)
theorem dX7_goesOn_192 : decode cX7_goesOn 192 = .ok (.aload_n 0, 1) := dk_42 (dk_at dksX7_goesOn_8 3 rfl rfl)
theorem dX7_goesOn_193 : decode cX7_goesOn 193 = .ok (.bipush 10, 2) := dk_16 10 (dk_at dksX7_goesOn_8 4 rfl rfl)
theorem dX7_goesOn_195 : decode cX7_goesOn 195 = .ok (.aload_n 0, 1) := dk_42 (dk_at dksX7_goesOn_8 6 rfl rfl)
theorem dX7_goesOn_196 : decode cX7_goesOn 196 = .ok (.getfield 106, 3) := dk_180 0 106 (dk_at dksX7_goesOn_8 7 rfl rfl)
theorem dX7_goesOn_199 : decode cX7_goesOn 199 = .ok (.imul, 1) := dk_104 (dk_at dksX7_goesOn_8 10 rfl rfl)
theorem dX7_goesOn_200 : decode cX7_goesOn 200 = .ok (.aload_n 0, 1) := dk_42 (dk_at dksX7_goesOn_8 11 rfl rfl)
theorem dX7_goesOn_201 : decode cX7_goesOn 201 = .ok (.aload_n 0, 1) := dk_42 (dk_at dksX7_goesOn_8 12 rfl rfl)
theorem dX7_goesOn_202 : decode cX7_goesOn 202 = .ok (.getfield 86, 3) := dk_180 0 86 (dk_at dksX7_goesOn_8 13 rfl rfl)
theorem dX7_goesOn_205 : decode cX7_goesOn 205 = .ok (.invokevirtual 89, 3) := dk_182 0 89 (dk_at dksX7_goesOn_8 16 rfl rfl)
theorem dX7_goesOn_208 : decode cX7_goesOn 208 = .ok (.iadd, 1) := dk_96 (dk_at dksX7_goesOn_8 19 rfl rfl)
theorem dX7_goesOn_209 : decode cX7_goesOn 209 = .ok (.bipush 48, 2) := dk_16 48 (dk_at dksX7_goesOn_8 20 rfl rfl)
theorem dX7_goesOn_211 : decode cX7_goesOn 211 = .ok (.isub, 1) := dk_100 (dk_at dksX7_goesOn_8 22 rfl rfl)
theorem dX7_goesOn_212 : decode cX7_goesOn 212 = .ok (.putfield 106, 3) := dk_181 0 106 (dk_at dksX7_goesOn_9 0 rfl rfl)
theorem dX7_goesOn_215 : decode cX7_goesOn 215 = .ok (.iinc 2 1, 3) := dk_132 2 1 (dk_at dksX7_goesOn_9 3 rfl rfl)
theorem dX7_goesOn_218 : decode cX7_goesOn 218 = .ok (.aload_n 0, 1) := dk_42 (dk_at dksX7_goesOn_9 6 rfl rfl)
theorem dX7_goesOn_219 : decode cX7_goesOn 219 = .ok (.dup, 1) := dk_89 (dk_at dksX7_goesOn_9 7 rfl rfl)
theorem dX7_goesOn_220 : decode cX7_goesOn 220 = .ok (.getfield 86, 3) := dk_180 0 86 (dk_at dksX7_goesOn_9 8 rfl rfl)
theorem dX7_goesOn_223 : decode cX7_goesOn 223 = .ok (.iconst 1, 1) := dk_4 (dk_at dksX7_goesOn_9 11 rfl rfl)
theorem dX7_goesOn_224 : decode cX7_goesOn 224 = .ok (.iadd, 1) := dk_96 (dk_at dksX7_goesOn_9 12 rfl rfl)
theorem dX7_goesOn_225 : decode cX7_goesOn 225 = .ok (.putfield 86, 3) := dk_181 0 86 (dk_at dksX7_goesOn_9 13 rfl rfl)
theorem dX7_goesOn_228 : decode cX7_goesOn 228 = .ok (.goto (-55), 3) := dk_167 255 201 (dk_at dksX7_goesOn_9 16 rfl rfl)
theorem dX7_goesOn_231 : decode cX7_goesOn 231 = .ok (.iload_n 2, 1) := dk_28 (dk_at dksX7_goesOn_9 19 rfl rfl)
theorem dX7_goesOn_232 : decode cX7_goesOn 232 = .ok (.iconst 3, 1) := dk_6 (dk_at dksX7_goesOn_9 20 rfl rfl)
theorem dX7_goesOn_233 : decode cX7_goesOn 233 = .ok (.if_icmp .gt 32, 3) := dk_163 0 32 (dk_at dksX7_goesOn_9 21 rfl rfl)
theorem dX7_goesOn_236 : decode cX7_goesOn 236 = .ok (.aload_n 0, 1) := dk_42 (dk_at dksX7_goesOn_10 0 rfl rfl)
theorem dX7_goesOn_237 : decode cX7_goesOn 237 = .ok (.iconst 3, 1) := dk_6 (dk_at dksX7_goesOn_10 1 rfl rfl)
theorem dX7_goesOn_238 : decode cX7_goesOn 238 = .ok (.putfield 83, 3) := dk_181 0 83 (dk_at dksX7_goesOn_10 2 rfl rfl)
theorem dX7_goesOn_241 : decode cX7_goesOn 241 = .ok (.goto 24, 3) := dk_167 0 24 (dk_at dksX7_goesOn_10 5 rfl rfl)
theorem dX7_goesOn_244 : decode cX7_goesOn 244 = .ok (.iload_n 1, 1) := dk_27 (dk_at dksX7_goesOn_10 8 rfl rfl)
theorem dX7_goesOn_245 : decode cX7_goesOn 245 = .ok (.bipush 59, 2) := dk_16 59 (dk_at dksX7_goesOn_10 9 rfl rfl)
theorem dX7_goesOn_247 : decode cX7_goesOn 247 = .ok (.if_icmp .ne 18, 3) := dk_160 0 18 (dk_at dksX7_goesOn_10 11 rfl rfl)
theorem dX7_goesOn_250 : decode cX7_goesOn 250 = .ok (.aload_n 0, 1) := dk_42 (dk_at dksX7_goesOn_10 14 rfl rfl)
theorem dX7_goesOn_251 : decode cX7_goesOn 251 = .ok (.iconst 4, 1) := dk_7 (dk_at dksX7_goesOn_10 15 rfl rfl)
theorem dX7_goesOn_252 : decode cX7_goesOn 252 = .ok (.putfield 83, 3) := dk_181 0 83 (dk_at dksX7_goesOn_10 16 rfl rfl)
theorem dX7_goesOn_255 : decode cX7_goesOn 255 = .ok (.aload_n 0, 1) := dk_42 (dk_at dksX7_goesOn_10 19 rfl rfl)
theorem dX7_goesOn_256 : decode cX7_goesOn 256 = .ok (.dup, 1) := dk_89 (dk_at dksX7_goesOn_10 20 rfl rfl)
theorem dX7_goesOn_257 : decode cX7_goesOn 257 = .ok (.getfield 86, 3) := dk_180 0 86 (dk_at dksX7_goesOn_10 21 rfl rfl)
theorem dX7_goesOn_260 : decode cX7_goesOn 260 = .ok (.iconst 1, 1) := dk_4 (dk_at dksX7_goesOn_11 0 rfl rfl)
theorem dX7_goesOn_261 : decode cX7_goesOn 261 = .ok (.iadd, 1) := dk_96 (dk_at dksX7_goesOn_11 1 rfl rfl)
theorem dX7_goesOn_262 : decode cX7_goesOn 262 = .ok (.putfield 86, 3) := dk_181 0 86 (dk_at dksX7_goesOn_11 2 rfl rfl)
theorem dX7_goesOn_265 : decode cX7_goesOn 265 = .ok (.return_, 1) := dk_177 (dk_at dksX7_goesOn_11 5 rfl rfl)
abbrev cX7_byteAt : ByteArray := prog_14_method_13_code
def yX7_byteAt : MethodName := ⟨RX7, "byteAt", "(I)I"⟩
def dkwX7_byteAt_0 : List UInt8 := [27, 42, 180, 0, 68, 162, 0, 16, 42, 180, 0, 13, 27, 51, 17, 0, 255, 126, 167, 0, 4, 2, 172]
abbrev dktX7_byteAt_0 : List UInt8 := dkwX7_byteAt_0 ++ []
theorem dksX7_byteAt_0 : cX7_byteAt.data.toList.drop 0 = dktX7_byteAt_0 := by decide +kernel
theorem dX7_byteAt_0 : decode cX7_byteAt 0 = .ok (.iload_n 1, 1) := dk_27 (dk_at dksX7_byteAt_0 0 rfl rfl)
theorem dX7_byteAt_1 : decode cX7_byteAt 1 = .ok (.aload_n 0, 1) := dk_42 (dk_at dksX7_byteAt_0 1 rfl rfl)
theorem dX7_byteAt_2 : decode cX7_byteAt 2 = .ok (.getfield 68, 3) := dk_180 0 68 (dk_at dksX7_byteAt_0 2 rfl rfl)
theorem dX7_byteAt_5 : decode cX7_byteAt 5 = .ok (.if_icmp .ge 16, 3) := dk_162 0 16 (dk_at dksX7_byteAt_0 5 rfl rfl)
theorem dX7_byteAt_8 : decode cX7_byteAt 8 = .ok (.aload_n 0, 1) := dk_42 (dk_at dksX7_byteAt_0 8 rfl rfl)
theorem dX7_byteAt_9 : decode cX7_byteAt 9 = .ok (.getfield 13, 3) := dk_180 0 13 (dk_at dksX7_byteAt_0 9 rfl rfl)
theorem dX7_byteAt_12 : decode cX7_byteAt 12 = .ok (.iload_n 1, 1) := dk_27 (dk_at dksX7_byteAt_0 12 rfl rfl)
theorem dX7_byteAt_13 : decode cX7_byteAt 13 = .ok (.baload, 1) := dk_51 (dk_at dksX7_byteAt_0 13 rfl rfl)
theorem dX7_byteAt_14 : decode cX7_byteAt 14 = .ok (.sipush 255, 3) := dk_17 0 255 (dk_at dksX7_byteAt_0 14 rfl rfl)
theorem dX7_byteAt_17 : decode cX7_byteAt 17 = .ok (.iand, 1) := dk_126 (dk_at dksX7_byteAt_0 17 rfl rfl)
theorem dX7_byteAt_18 : decode cX7_byteAt 18 = .ok (.goto 4, 3) := dk_167 0 4 (dk_at dksX7_byteAt_0 18 rfl rfl)
theorem dX7_byteAt_21 : decode cX7_byteAt 21 = .ok (.iconst (-1), 1) := dk_2 (dk_at dksX7_byteAt_0 21 rfl rfl)
theorem dX7_byteAt_22 : decode cX7_byteAt 22 = .ok (.ireturn, 1) := dk_172 (dk_at dksX7_byteAt_0 22 rfl rfl)
abbrev cX7_isLetter : ByteArray := prog_14_method_14_code
def yX7_isLetter : MethodName := ⟨RX7, "isLetter", "(I)Z"⟩
def dkwX7_isLetter_0 : List UInt8 := [26, 16, 97, 161, 0, 13, 26, 16, 122, 163, 0, 7, 4, 167, 0, 4, 3, 172]
abbrev dktX7_isLetter_0 : List UInt8 := dkwX7_isLetter_0 ++ []
theorem dksX7_isLetter_0 : cX7_isLetter.data.toList.drop 0 = dktX7_isLetter_0 := by decide +kernel
theorem dX7_isLetter_0 : decode cX7_isLetter 0 = .ok (.iload_n 0, 1) := dk_26 (dk_at dksX7_isLetter_0 0 rfl rfl)
theorem dX7_isLetter_1 : decode cX7_isLetter 1 = .ok (.bipush 97, 2) := dk_16 97 (dk_at dksX7_isLetter_0 1 rfl rfl)
theorem dX7_isLetter_3 : decode cX7_isLetter 3 = .ok (.if_icmp .lt 13, 3) := dk_161 0 13 (dk_at dksX7_isLetter_0 3 rfl rfl)
theorem dX7_isLetter_6 : decode cX7_isLetter 6 = .ok (.iload_n 0, 1) := dk_26 (dk_at dksX7_isLetter_0 6 rfl rfl)
theorem dX7_isLetter_7 : decode cX7_isLetter 7 = .ok (.bipush 122, 2) := dk_16 122 (dk_at dksX7_isLetter_0 7 rfl rfl)
theorem dX7_isLetter_9 : decode cX7_isLetter 9 = .ok (.if_icmp .gt 7, 3) := dk_163 0 7 (dk_at dksX7_isLetter_0 9 rfl rfl)
theorem dX7_isLetter_12 : decode cX7_isLetter 12 = .ok (.iconst 1, 1) := dk_4 (dk_at dksX7_isLetter_0 12 rfl rfl)
theorem dX7_isLetter_13 : decode cX7_isLetter 13 = .ok (.goto 4, 3) := dk_167 0 4 (dk_at dksX7_isLetter_0 13 rfl rfl)
theorem dX7_isLetter_16 : decode cX7_isLetter 16 = .ok (.iconst 0, 1) := dk_3 (dk_at dksX7_isLetter_0 16 rfl rfl)
theorem dX7_isLetter_17 : decode cX7_isLetter 17 = .ok (.ireturn, 1) := dk_172 (dk_at dksX7_isLetter_0 17 rfl rfl)
abbrev cX7_isDigit : ByteArray := prog_14_method_15_code
def yX7_isDigit : MethodName := ⟨RX7, "isDigit", "(I)Z"⟩
def dkwX7_isDigit_0 : List UInt8 := [26, 16, 48, 161, 0, 13, 26, 16, 57, 163, 0, 7, 4, 167, 0, 4, 3, 172]
abbrev dktX7_isDigit_0 : List UInt8 := dkwX7_isDigit_0 ++ []
theorem dksX7_isDigit_0 : cX7_isDigit.data.toList.drop 0 = dktX7_isDigit_0 := by decide +kernel
theorem dX7_isDigit_0 : decode cX7_isDigit 0 = .ok (.iload_n 0, 1) := dk_26 (dk_at dksX7_isDigit_0 0 rfl rfl)
theorem dX7_isDigit_1 : decode cX7_isDigit 1 = .ok (.bipush 48, 2) := dk_16 48 (dk_at dksX7_isDigit_0 1 rfl rfl)
theorem dX7_isDigit_3 : decode cX7_isDigit 3 = .ok (.if_icmp .lt 13, 3) := dk_161 0 13 (dk_at dksX7_isDigit_0 3 rfl rfl)
theorem dX7_isDigit_6 : decode cX7_isDigit 6 = .ok (.iload_n 0, 1) := dk_26 (dk_at dksX7_isDigit_0 6 rfl rfl)
theorem dX7_isDigit_7 : decode cX7_isDigit 7 = .ok (.bipush 57, 2) := dk_16 57 (dk_at dksX7_isDigit_0 7 rfl rfl)
theorem dX7_isDigit_9 : decode cX7_isDigit 9 = .ok (.if_icmp .gt 7, 3) := dk_163 0 7 (dk_at dksX7_isDigit_0 9 rfl rfl)
theorem dX7_isDigit_12 : decode cX7_isDigit 12 = .ok (.iconst 1, 1) := dk_4 (dk_at dksX7_isDigit_0 12 rfl rfl)
theorem dX7_isDigit_13 : decode cX7_isDigit 13 = .ok (.goto 4, 3) := dk_167 0 4 (dk_at dksX7_isDigit_0 13 rfl rfl)
theorem dX7_isDigit_16 : decode cX7_isDigit 16 = .ok (.iconst 0, 1) := dk_3 (dk_at dksX7_isDigit_0 16 rfl rfl)
theorem dX7_isDigit_17 : decode cX7_isDigit 17 = .ok (.ireturn, 1) := dk_172 (dk_at dksX7_isDigit_0 17 rfl rfl)
abbrev cX7_readAll : ByteArray := prog_14_method_25_code
def yX7_readAll : MethodName := ⟨RX7, "readAll", "()V"⟩
def dkwX7_readAll_2 : List UInt8 := [177]
abbrev dktX7_readAll_2 : List UInt8 := dkwX7_readAll_2 ++ []
def dkwX7_readAll_1 : List UInt8 := [159, 0, 8, 42, 4, 182, 0, 126, 42, 180, 0, 148, 180, 0, 170, 154, 0, 9, 42, 16, 6, 182, 0, 126]
abbrev dktX7_readAll_1 : List UInt8 := dkwX7_readAll_1 ++ dktX7_readAll_2
def dkwX7_readAll_0 : List UInt8 := [4, 60, 27, 153, 0, 15, 42, 182, 0, 164, 42, 182, 0, 167, 60, 167, 255, 243, 42, 180, 0, 83, 4]
abbrev dktX7_readAll_0 : List UInt8 := dkwX7_readAll_0 ++ dktX7_readAll_1
theorem dksX7_readAll_0 : cX7_readAll.data.toList.drop 0 = dktX7_readAll_0 := by decide +kernel
theorem dksX7_readAll_1 : cX7_readAll.data.toList.drop 23 = dktX7_readAll_1 := dk_seg dksX7_readAll_0 23 rfl rfl
theorem dksX7_readAll_2 : cX7_readAll.data.toList.drop 47 = dktX7_readAll_2 := dk_seg dksX7_readAll_1 24 rfl rfl
theorem dX7_readAll_0 : decode cX7_readAll 0 = .ok (.iconst 1, 1) := dk_4 (dk_at dksX7_readAll_0 0 rfl rfl)
theorem dX7_readAll_1 : decode cX7_readAll 1 = .ok (.istore_n 1, 1) := dk_60 (dk_at dksX7_readAll_0 1 rfl rfl)
theorem dX7_readAll_2 : decode cX7_readAll 2 = .ok (.iload_n 1, 1) := dk_27 (dk_at dksX7_readAll_0 2 rfl rfl)
theorem dX7_readAll_3 : decode cX7_readAll 3 = .ok (.ifCond .eq 15, 3) := dk_153 0 15 (dk_at dksX7_readAll_0 3 rfl rfl)
theorem dX7_readAll_6 : decode cX7_readAll 6 = .ok (.aload_n 0, 1) := dk_42 (dk_at dksX7_readAll_0 6 rfl rfl)
theorem dX7_readAll_7 : decode cX7_readAll 7 = .ok (.invokevirtual 164, 3) := dk_182 0 164 (dk_at dksX7_readAll_0 7 rfl rfl)
theorem dX7_readAll_10 : decode cX7_readAll 10 = .ok (.aload_n 0, 1) := dk_42 (dk_at dksX7_readAll_0 10 rfl rfl)
theorem dX7_readAll_11 : decode cX7_readAll 11 = .ok (.invokevirtual 167, 3) := dk_182 0 167 (dk_at dksX7_readAll_0 11 rfl rfl)
theorem dX7_readAll_14 : decode cX7_readAll 14 = .ok (.istore_n 1, 1) := dk_60 (dk_at dksX7_readAll_0 14 rfl rfl)
theorem dX7_readAll_15 : decode cX7_readAll 15 = .ok (.goto (-13), 3) := dk_167 255 243 (dk_at dksX7_readAll_0 15 rfl rfl)
theorem dX7_readAll_18 : decode cX7_readAll 18 = .ok (.aload_n 0, 1) := dk_42 (dk_at dksX7_readAll_0 18 rfl rfl)
theorem dX7_readAll_19 : decode cX7_readAll 19 = .ok (.getfield 83, 3) := dk_180 0 83 (dk_at dksX7_readAll_0 19 rfl rfl)
theorem dX7_readAll_22 : decode cX7_readAll 22 = .ok (.iconst 1, 1) := dk_4 (dk_at dksX7_readAll_0 22 rfl rfl)
theorem dX7_readAll_23 : decode cX7_readAll 23 = .ok (.if_icmp .eq 8, 3) := dk_159 0 8 (dk_at dksX7_readAll_1 0 rfl rfl)
theorem dX7_readAll_26 : decode cX7_readAll 26 = .ok (.aload_n 0, 1) := dk_42 (dk_at dksX7_readAll_1 3 rfl rfl)
theorem dX7_readAll_27 : decode cX7_readAll 27 = .ok (.iconst 1, 1) := dk_4 (dk_at dksX7_readAll_1 4 rfl rfl)
theorem dX7_readAll_28 : decode cX7_readAll 28 = .ok (.invokevirtual 126, 3) := dk_182 0 126 (dk_at dksX7_readAll_1 5 rfl rfl)
theorem dX7_readAll_31 : decode cX7_readAll 31 = .ok (.aload_n 0, 1) := dk_42 (dk_at dksX7_readAll_1 8 rfl rfl)
theorem dX7_readAll_32 : decode cX7_readAll 32 = .ok (.getfield 148, 3) := dk_180 0 148 (dk_at dksX7_readAll_1 9 rfl rfl)
theorem dX7_readAll_35 : decode cX7_readAll 35 = .ok (.getfield 170, 3) := dk_180 0 170 (dk_at dksX7_readAll_1 12 rfl rfl)
theorem dX7_readAll_38 : decode cX7_readAll 38 = .ok (.ifCond .ne 9, 3) := dk_154 0 9 (dk_at dksX7_readAll_1 15 rfl rfl)
theorem dX7_readAll_41 : decode cX7_readAll 41 = .ok (.aload_n 0, 1) := dk_42 (dk_at dksX7_readAll_1 18 rfl rfl)
theorem dX7_readAll_42 : decode cX7_readAll 42 = .ok (.bipush 6, 2) := dk_16 6 (dk_at dksX7_readAll_1 19 rfl rfl)
theorem dX7_readAll_44 : decode cX7_readAll 44 = .ok (.invokevirtual 126, 3) := dk_182 0 126 (dk_at dksX7_readAll_1 21 rfl rfl)
theorem dX7_readAll_47 : decode cX7_readAll 47 = .ok (.return_, 1) := dk_177 (dk_at dksX7_readAll_2 0 rfl rfl)
abbrev cX7_readLine : ByteArray := prog_14_method_26_code
def yX7_readLine : MethodName := ⟨RX7, "readLine", "()V"⟩
def dkwX7_readLine_4 : List UInt8 := [182, 0, 188, 167, 0, 8, 42, 4, 182, 0, 126, 177]
abbrev dktX7_readLine_4 : List UInt8 := dkwX7_readLine_4 ++ []
def dkwX7_readLine_3 : List UInt8 := [182, 0, 122, 153, 0, 10, 42, 182, 0, 185, 167, 0, 24, 42, 18, 144, 182, 0, 122, 153, 0, 10, 42]
abbrev dktX7_readLine_3 : List UInt8 := dkwX7_readLine_3 ++ dktX7_readLine_4
def dkwX7_readLine_2 : List UInt8 := [167, 0, 56, 42, 18, 140, 182, 0, 122, 153, 0, 10, 42, 182, 0, 182, 167, 0, 40, 42, 18, 142]
abbrev dktX7_readLine_2 : List UInt8 := dkwX7_readLine_2 ++ dktX7_readLine_3
def dkwX7_readLine_1 : List UInt8 := [153, 0, 10, 42, 182, 0, 176, 167, 0, 72, 42, 18, 138, 182, 0, 122, 153, 0, 10, 42, 182, 0, 179]
abbrev dktX7_readLine_1 : List UInt8 := dkwX7_readLine_1 ++ dktX7_readLine_2
def dkwX7_readLine_0 : List UInt8 := [42, 18, 134, 182, 0, 122, 153, 0, 10, 42, 182, 0, 173, 167, 0, 88, 42, 18, 136, 182, 0, 122]
abbrev dktX7_readLine_0 : List UInt8 := dkwX7_readLine_0 ++ dktX7_readLine_1
theorem dksX7_readLine_0 : cX7_readLine.data.toList.drop 0 = dktX7_readLine_0 := by decide +kernel
theorem dksX7_readLine_1 : cX7_readLine.data.toList.drop 22 = dktX7_readLine_1 := dk_seg dksX7_readLine_0 22 rfl rfl
theorem dksX7_readLine_2 : cX7_readLine.data.toList.drop 45 = dktX7_readLine_2 := dk_seg dksX7_readLine_1 23 rfl rfl
theorem dksX7_readLine_3 : cX7_readLine.data.toList.drop 67 = dktX7_readLine_3 := dk_seg dksX7_readLine_2 22 rfl rfl
theorem dksX7_readLine_4 : cX7_readLine.data.toList.drop 90 = dktX7_readLine_4 := dk_seg dksX7_readLine_3 23 rfl rfl
theorem dX7_readLine_0 : decode cX7_readLine 0 = .ok (.aload_n 0, 1) := dk_42 (dk_at dksX7_readLine_0 0 rfl rfl)
theorem dX7_readLine_1 : decode cX7_readLine 1 = .ok (.ldc 134, 2) := dk_18 134 (dk_at dksX7_readLine_0 1 rfl rfl)
theorem dX7_readLine_3 : decode cX7_readLine 3 = .ok (.invokevirtual 122, 3) := dk_182 0 122 (dk_at dksX7_readLine_0 3 rfl rfl)
theorem dX7_readLine_6 : decode cX7_readLine 6 = .ok (.ifCond .eq 10, 3) := dk_153 0 10 (dk_at dksX7_readLine_0 6 rfl rfl)
theorem dX7_readLine_9 : decode cX7_readLine 9 = .ok (.aload_n 0, 1) := dk_42 (dk_at dksX7_readLine_0 9 rfl rfl)
theorem dX7_readLine_10 : decode cX7_readLine 10 = .ok (.invokevirtual 173, 3) := dk_182 0 173 (dk_at dksX7_readLine_0 10 rfl rfl)
theorem dX7_readLine_13 : decode cX7_readLine 13 = .ok (.goto 88, 3) := dk_167 0 88 (dk_at dksX7_readLine_0 13 rfl rfl)
theorem dX7_readLine_16 : decode cX7_readLine 16 = .ok (.aload_n 0, 1) := dk_42 (dk_at dksX7_readLine_0 16 rfl rfl)
theorem dX7_readLine_17 : decode cX7_readLine 17 = .ok (.ldc 136, 2) := dk_18 136 (dk_at dksX7_readLine_0 17 rfl rfl)
theorem dX7_readLine_19 : decode cX7_readLine 19 = .ok (.invokevirtual 122, 3) := dk_182 0 122 (dk_at dksX7_readLine_0 19 rfl rfl)
theorem dX7_readLine_22 : decode cX7_readLine 22 = .ok (.ifCond .eq 10, 3) := dk_153 0 10 (dk_at dksX7_readLine_1 0 rfl rfl)
theorem dX7_readLine_25 : decode cX7_readLine 25 = .ok (.aload_n 0, 1) := dk_42 (dk_at dksX7_readLine_1 3 rfl rfl)
theorem dX7_readLine_26 : decode cX7_readLine 26 = .ok (.invokevirtual 176, 3) := dk_182 0 176 (dk_at dksX7_readLine_1 4 rfl rfl)
theorem dX7_readLine_29 : decode cX7_readLine 29 = .ok (.goto 72, 3) := dk_167 0 72 (dk_at dksX7_readLine_1 7 rfl rfl)
theorem dX7_readLine_32 : decode cX7_readLine 32 = .ok (.aload_n 0, 1) := dk_42 (dk_at dksX7_readLine_1 10 rfl rfl)
theorem dX7_readLine_33 : decode cX7_readLine 33 = .ok (.ldc 138, 2) := dk_18 138 (dk_at dksX7_readLine_1 11 rfl rfl)
theorem dX7_readLine_35 : decode cX7_readLine 35 = .ok (.invokevirtual 122, 3) := dk_182 0 122 (dk_at dksX7_readLine_1 13 rfl rfl)
theorem dX7_readLine_38 : decode cX7_readLine 38 = .ok (.ifCond .eq 10, 3) := dk_153 0 10 (dk_at dksX7_readLine_1 16 rfl rfl)
theorem dX7_readLine_41 : decode cX7_readLine 41 = .ok (.aload_n 0, 1) := dk_42 (dk_at dksX7_readLine_1 19 rfl rfl)
theorem dX7_readLine_42 : decode cX7_readLine 42 = .ok (.invokevirtual 179, 3) := dk_182 0 179 (dk_at dksX7_readLine_1 20 rfl rfl)
theorem dX7_readLine_45 : decode cX7_readLine 45 = .ok (.goto 56, 3) := dk_167 0 56 (dk_at dksX7_readLine_2 0 rfl rfl)
theorem dX7_readLine_48 : decode cX7_readLine 48 = .ok (.aload_n 0, 1) := dk_42 (dk_at dksX7_readLine_2 3 rfl rfl)
theorem dX7_readLine_49 : decode cX7_readLine 49 = .ok (.ldc 140, 2) := dk_18 140 (dk_at dksX7_readLine_2 4 rfl rfl)
theorem dX7_readLine_51 : decode cX7_readLine 51 = .ok (.invokevirtual 122, 3) := dk_182 0 122 (dk_at dksX7_readLine_2 6 rfl rfl)
theorem dX7_readLine_54 : decode cX7_readLine 54 = .ok (.ifCond .eq 10, 3) := dk_153 0 10 (dk_at dksX7_readLine_2 9 rfl rfl)
theorem dX7_readLine_57 : decode cX7_readLine 57 = .ok (.aload_n 0, 1) := dk_42 (dk_at dksX7_readLine_2 12 rfl rfl)
theorem dX7_readLine_58 : decode cX7_readLine 58 = .ok (.invokevirtual 182, 3) := dk_182 0 182 (dk_at dksX7_readLine_2 13 rfl rfl)
theorem dX7_readLine_61 : decode cX7_readLine 61 = .ok (.goto 40, 3) := dk_167 0 40 (dk_at dksX7_readLine_2 16 rfl rfl)
theorem dX7_readLine_64 : decode cX7_readLine 64 = .ok (.aload_n 0, 1) := dk_42 (dk_at dksX7_readLine_2 19 rfl rfl)
theorem dX7_readLine_65 : decode cX7_readLine 65 = .ok (.ldc 142, 2) := dk_18 142 (dk_at dksX7_readLine_2 20 rfl rfl)
theorem dX7_readLine_67 : decode cX7_readLine 67 = .ok (.invokevirtual 122, 3) := dk_182 0 122 (dk_at dksX7_readLine_3 0 rfl rfl)
theorem dX7_readLine_70 : decode cX7_readLine 70 = .ok (.ifCond .eq 10, 3) := dk_153 0 10 (dk_at dksX7_readLine_3 3 rfl rfl)
theorem dX7_readLine_73 : decode cX7_readLine 73 = .ok (.aload_n 0, 1) := dk_42 (dk_at dksX7_readLine_3 6 rfl rfl)
theorem dX7_readLine_74 : decode cX7_readLine 74 = .ok (.invokevirtual 185, 3) := dk_182 0 185 (dk_at dksX7_readLine_3 7 rfl rfl)
theorem dX7_readLine_77 : decode cX7_readLine 77 = .ok (.goto 24, 3) := dk_167 0 24 (dk_at dksX7_readLine_3 10 rfl rfl)
theorem dX7_readLine_80 : decode cX7_readLine 80 = .ok (.aload_n 0, 1) := dk_42 (dk_at dksX7_readLine_3 13 rfl rfl)
theorem dX7_readLine_81 : decode cX7_readLine 81 = .ok (.ldc 144, 2) := dk_18 144 (dk_at dksX7_readLine_3 14 rfl rfl)
theorem dX7_readLine_83 : decode cX7_readLine 83 = .ok (.invokevirtual 122, 3) := dk_182 0 122 (dk_at dksX7_readLine_3 16 rfl rfl)
theorem dX7_readLine_86 : decode cX7_readLine 86 = .ok (.ifCond .eq 10, 3) := dk_153 0 10 (dk_at dksX7_readLine_3 19 rfl rfl)
theorem dX7_readLine_89 : decode cX7_readLine 89 = .ok (.aload_n 0, 1) := dk_42 (dk_at dksX7_readLine_3 22 rfl rfl)
theorem dX7_readLine_90 : decode cX7_readLine 90 = .ok (.invokevirtual 188, 3) := dk_182 0 188 (dk_at dksX7_readLine_4 0 rfl rfl)
theorem dX7_readLine_93 : decode cX7_readLine 93 = .ok (.goto 8, 3) := dk_167 0 8 (dk_at dksX7_readLine_4 3 rfl rfl)
theorem dX7_readLine_96 : decode cX7_readLine 96 = .ok (.aload_n 0, 1) := dk_42 (dk_at dksX7_readLine_4 6 rfl rfl)
theorem dX7_readLine_97 : decode cX7_readLine 97 = .ok (.iconst 1, 1) := dk_4 (dk_at dksX7_readLine_4 7 rfl rfl)
theorem dX7_readLine_98 : decode cX7_readLine 98 = .ok (.invokevirtual 126, 3) := dk_182 0 126 (dk_at dksX7_readLine_4 8 rfl rfl)
theorem dX7_readLine_101 : decode cX7_readLine 101 = .ok (.return_, 1) := dk_177 (dk_at dksX7_readLine_4 11 rfl rfl)
abbrev cX7_isWord : ByteArray := prog_14_method_19_code
def yX7_isWord : MethodName := ⟨RX7, "isWord", "(Ljava/lang/String;)Z"⟩
def dkwX7_isWord_1 : List UInt8 := [3, 172]
abbrev dktX7_isWord_1 : List UInt8 := dkwX7_isWord_1 ++ []
def dkwX7_isWord_0 : List UInt8 := [42, 180, 0, 83, 5, 160, 0, 19, 42, 180, 0, 99, 43, 184, 0, 115, 148, 154, 0, 7, 4, 167, 0, 4]
abbrev dktX7_isWord_0 : List UInt8 := dkwX7_isWord_0 ++ dktX7_isWord_1
theorem dksX7_isWord_0 : cX7_isWord.data.toList.drop 0 = dktX7_isWord_0 := by decide +kernel
theorem dksX7_isWord_1 : cX7_isWord.data.toList.drop 24 = dktX7_isWord_1 := dk_seg dksX7_isWord_0 24 rfl rfl
theorem dX7_isWord_0 : decode cX7_isWord 0 = .ok (.aload_n 0, 1) := dk_42 (dk_at dksX7_isWord_0 0 rfl rfl)
theorem dX7_isWord_1 : decode cX7_isWord 1 = .ok (.getfield 83, 3) := dk_180 0 83 (dk_at dksX7_isWord_0 1 rfl rfl)
theorem dX7_isWord_4 : decode cX7_isWord 4 = .ok (.iconst 2, 1) := dk_5 (dk_at dksX7_isWord_0 4 rfl rfl)
theorem dX7_isWord_5 : decode cX7_isWord 5 = .ok (.if_icmp .ne 19, 3) := dk_160 0 19 (dk_at dksX7_isWord_0 5 rfl rfl)
theorem dX7_isWord_8 : decode cX7_isWord 8 = .ok (.aload_n 0, 1) := dk_42 (dk_at dksX7_isWord_0 8 rfl rfl)
theorem dX7_isWord_9 : decode cX7_isWord 9 = .ok (.getfield 99, 3) := dk_180 0 99 (dk_at dksX7_isWord_0 9 rfl rfl)
theorem dX7_isWord_12 : decode cX7_isWord 12 = .ok (.aload_n 1, 1) := dk_43 (dk_at dksX7_isWord_0 12 rfl rfl)
theorem dX7_isWord_13 : decode cX7_isWord 13 = .ok (.invokestatic 115, 3) := dk_184 0 115 (dk_at dksX7_isWord_0 13 rfl rfl)
theorem dX7_isWord_16 : decode cX7_isWord 16 = .ok (.lcmp, 1) := dk_148 (dk_at dksX7_isWord_0 16 rfl rfl)
theorem dX7_isWord_17 : decode cX7_isWord 17 = .ok (.ifCond .ne 7, 3) := dk_154 0 7 (dk_at dksX7_isWord_0 17 rfl rfl)
theorem dX7_isWord_20 : decode cX7_isWord 20 = .ok (.iconst 1, 1) := dk_4 (dk_at dksX7_isWord_0 20 rfl rfl)
theorem dX7_isWord_21 : decode cX7_isWord 21 = .ok (.goto 4, 3) := dk_167 0 4 (dk_at dksX7_isWord_0 21 rfl rfl)
theorem dX7_isWord_24 : decode cX7_isWord 24 = .ok (.iconst 0, 1) := dk_3 (dk_at dksX7_isWord_1 0 rfl rfl)
theorem dX7_isWord_25 : decode cX7_isWord 25 = .ok (.ireturn, 1) := dk_172 (dk_at dksX7_isWord_1 1 rfl rfl)
abbrev cX7_packed : ByteArray := prog_14_method_16_code
def yX7_packed : MethodName := ⟨RX7, "packed", "(Ljava/lang/String;)J"⟩
def dkwX7_packed_1 : List UInt8 := [100, 4, 96, 133, 97, 64, 132, 3, 1, 167, 255, 227, 31, 173]
abbrev dktX7_packed_1 : List UInt8 := dkwX7_packed_1 ++ []
def dkwX7_packed_0 : List UInt8 := [9, 64, 3, 62, 29, 42, 182, 0, 71, 162, 0, 27, 20, 0, 77, 31, 105, 42, 29, 182, 0, 79, 16, 97]
abbrev dktX7_packed_0 : List UInt8 := dkwX7_packed_0 ++ dktX7_packed_1
theorem dksX7_packed_0 : cX7_packed.data.toList.drop 0 = dktX7_packed_0 := by decide +kernel
theorem dksX7_packed_1 : cX7_packed.data.toList.drop 24 = dktX7_packed_1 := dk_seg dksX7_packed_0 24 rfl rfl
theorem dX7_packed_0 : decode cX7_packed 0 = .ok (.lconst 0, 1) := dk_9 (dk_at dksX7_packed_0 0 rfl rfl)
theorem dX7_packed_1 : decode cX7_packed 1 = .ok (.lstore_n 1, 1) := dk_64 (dk_at dksX7_packed_0 1 rfl rfl)
theorem dX7_packed_2 : decode cX7_packed 2 = .ok (.iconst 0, 1) := dk_3 (dk_at dksX7_packed_0 2 rfl rfl)
theorem dX7_packed_3 : decode cX7_packed 3 = .ok (.istore_n 3, 1) := dk_62 (dk_at dksX7_packed_0 3 rfl rfl)
theorem dX7_packed_4 : decode cX7_packed 4 = .ok (.iload_n 3, 1) := dk_29 (dk_at dksX7_packed_0 4 rfl rfl)
theorem dX7_packed_5 : decode cX7_packed 5 = .ok (.aload_n 0, 1) := dk_42 (dk_at dksX7_packed_0 5 rfl rfl)
theorem dX7_packed_6 : decode cX7_packed 6 = .ok (.invokevirtual 71, 3) := dk_182 0 71 (dk_at dksX7_packed_0 6 rfl rfl)
theorem dX7_packed_9 : decode cX7_packed 9 = .ok (.if_icmp .ge 27, 3) := dk_162 0 27 (dk_at dksX7_packed_0 9 rfl rfl)
theorem dX7_packed_12 : decode cX7_packed 12 = .ok (.ldc2_w 77, 3) := dk_20 0 77 (dk_at dksX7_packed_0 12 rfl rfl)
theorem dX7_packed_15 : decode cX7_packed 15 = .ok (.lload_n 1, 1) := dk_31 (dk_at dksX7_packed_0 15 rfl rfl)
theorem dX7_packed_16 : decode cX7_packed 16 = .ok (.lmul, 1) := dk_105 (dk_at dksX7_packed_0 16 rfl rfl)
theorem dX7_packed_17 : decode cX7_packed 17 = .ok (.aload_n 0, 1) := dk_42 (dk_at dksX7_packed_0 17 rfl rfl)
theorem dX7_packed_18 : decode cX7_packed 18 = .ok (.iload_n 3, 1) := dk_29 (dk_at dksX7_packed_0 18 rfl rfl)
theorem dX7_packed_19 : decode cX7_packed 19 = .ok (.invokevirtual 79, 3) := dk_182 0 79 (dk_at dksX7_packed_0 19 rfl rfl)
theorem dX7_packed_22 : decode cX7_packed 22 = .ok (.bipush 97, 2) := dk_16 97 (dk_at dksX7_packed_0 22 rfl rfl)
theorem dX7_packed_24 : decode cX7_packed 24 = .ok (.isub, 1) := dk_100 (dk_at dksX7_packed_1 0 rfl rfl)
theorem dX7_packed_25 : decode cX7_packed 25 = .ok (.iconst 1, 1) := dk_4 (dk_at dksX7_packed_1 1 rfl rfl)
theorem dX7_packed_26 : decode cX7_packed 26 = .ok (.iadd, 1) := dk_96 (dk_at dksX7_packed_1 2 rfl rfl)
theorem dX7_packed_27 : decode cX7_packed 27 = .ok (.i2l, 1) := dk_133 (dk_at dksX7_packed_1 3 rfl rfl)
theorem dX7_packed_28 : decode cX7_packed 28 = .ok (.ladd, 1) := dk_97 (dk_at dksX7_packed_1 4 rfl rfl)
theorem dX7_packed_29 : decode cX7_packed 29 = .ok (.lstore_n 1, 1) := dk_64 (dk_at dksX7_packed_1 5 rfl rfl)
theorem dX7_packed_30 : decode cX7_packed 30 = .ok (.iinc 3 1, 3) := dk_132 3 1 (dk_at dksX7_packed_1 6 rfl rfl)
theorem dX7_packed_33 : decode cX7_packed 33 = .ok (.goto (-29), 3) := dk_167 255 227 (dk_at dksX7_packed_1 9 rfl rfl)
theorem dX7_packed_36 : decode cX7_packed 36 = .ok (.lload_n 1, 1) := dk_31 (dk_at dksX7_packed_1 12 rfl rfl)
theorem dX7_packed_37 : decode cX7_packed 37 = .ok (.lreturn, 1) := dk_173 (dk_at dksX7_packed_1 13 rfl rfl)
abbrev cX7_readCity : ByteArray := prog_14_method_27_code
def yX7_readCity : MethodName := ⟨RX7, "readCity", "()V"⟩
def dkwX7_readCity_2 : List UInt8 := [177, 42, 180, 0, 148, 27, 181, 0, 152, 42, 180, 0, 148, 28, 181, 0, 198, 177]
abbrev dktX7_readCity_2 : List UInt8 := dkwX7_readCity_2 ++ []
def dkwX7_readCity_1 : List UInt8 := [16, 99, 182, 0, 192, 60, 42, 18, 196, 3, 16, 9, 182, 0, 192, 61, 42, 180, 0, 83, 8, 160, 0, 4]
abbrev dktX7_readCity_1 : List UInt8 := dkwX7_readCity_1 ++ dktX7_readCity_2
def dkwX7_readCity_0 : List UInt8 := [42, 180, 0, 148, 180, 0, 152, 2, 159, 0, 8, 42, 6, 182, 0, 126, 42, 182, 0, 119, 42, 18, 191, 3]
abbrev dktX7_readCity_0 : List UInt8 := dkwX7_readCity_0 ++ dktX7_readCity_1
theorem dksX7_readCity_0 : cX7_readCity.data.toList.drop 0 = dktX7_readCity_0 := by decide +kernel
theorem dksX7_readCity_1 : cX7_readCity.data.toList.drop 24 = dktX7_readCity_1 := dk_seg dksX7_readCity_0 24 rfl rfl
theorem dksX7_readCity_2 : cX7_readCity.data.toList.drop 48 = dktX7_readCity_2 := dk_seg dksX7_readCity_1 24 rfl rfl
theorem dX7_readCity_0 : decode cX7_readCity 0 = .ok (.aload_n 0, 1) := dk_42 (dk_at dksX7_readCity_0 0 rfl rfl)
theorem dX7_readCity_1 : decode cX7_readCity 1 = .ok (.getfield 148, 3) := dk_180 0 148 (dk_at dksX7_readCity_0 1 rfl rfl)
theorem dX7_readCity_4 : decode cX7_readCity 4 = .ok (.getfield 152, 3) := dk_180 0 152 (dk_at dksX7_readCity_0 4 rfl rfl)
theorem dX7_readCity_7 : decode cX7_readCity 7 = .ok (.iconst (-1), 1) := dk_2 (dk_at dksX7_readCity_0 7 rfl rfl)
theorem dX7_readCity_8 : decode cX7_readCity 8 = .ok (.if_icmp .eq 8, 3) := dk_159 0 8 (dk_at dksX7_readCity_0 8 rfl rfl)
theorem dX7_readCity_11 : decode cX7_readCity 11 = .ok (.aload_n 0, 1) := dk_42 (dk_at dksX7_readCity_0 11 rfl rfl)
theorem dX7_readCity_12 : decode cX7_readCity 12 = .ok (.iconst 3, 1) := dk_6 (dk_at dksX7_readCity_0 12 rfl rfl)
theorem dX7_readCity_13 : decode cX7_readCity 13 = .ok (.invokevirtual 126, 3) := dk_182 0 126 (dk_at dksX7_readCity_0 13 rfl rfl)
theorem dX7_readCity_16 : decode cX7_readCity 16 = .ok (.aload_n 0, 1) := dk_42 (dk_at dksX7_readCity_0 16 rfl rfl)
theorem dX7_readCity_17 : decode cX7_readCity 17 = .ok (.invokevirtual 119, 3) := dk_182 0 119 (dk_at dksX7_readCity_0 17 rfl rfl)
theorem dX7_readCity_20 : decode cX7_readCity 20 = .ok (.aload_n 0, 1) := dk_42 (dk_at dksX7_readCity_0 20 rfl rfl)
theorem dX7_readCity_21 : decode cX7_readCity 21 = .ok (.ldc 191, 2) := dk_18 191 (dk_at dksX7_readCity_0 21 rfl rfl)
theorem dX7_readCity_23 : decode cX7_readCity 23 = .ok (.iconst 0, 1) := dk_3 (dk_at dksX7_readCity_0 23 rfl rfl)
theorem dX7_readCity_24 : decode cX7_readCity 24 = .ok (.bipush 99, 2) := dk_16 99 (dk_at dksX7_readCity_1 0 rfl rfl)
theorem dX7_readCity_26 : decode cX7_readCity 26 = .ok (.invokevirtual 192, 3) := dk_182 0 192 (dk_at dksX7_readCity_1 2 rfl rfl)
theorem dX7_readCity_29 : decode cX7_readCity 29 = .ok (.istore_n 1, 1) := dk_60 (dk_at dksX7_readCity_1 5 rfl rfl)
theorem dX7_readCity_30 : decode cX7_readCity 30 = .ok (.aload_n 0, 1) := dk_42 (dk_at dksX7_readCity_1 6 rfl rfl)
theorem dX7_readCity_31 : decode cX7_readCity 31 = .ok (.ldc 196, 2) := dk_18 196 (dk_at dksX7_readCity_1 7 rfl rfl)
theorem dX7_readCity_33 : decode cX7_readCity 33 = .ok (.iconst 0, 1) := dk_3 (dk_at dksX7_readCity_1 9 rfl rfl)
theorem dX7_readCity_34 : decode cX7_readCity 34 = .ok (.bipush 9, 2) := dk_16 9 (dk_at dksX7_readCity_1 10 rfl rfl)
theorem dX7_readCity_36 : decode cX7_readCity 36 = .ok (.invokevirtual 192, 3) := dk_182 0 192 (dk_at dksX7_readCity_1 12 rfl rfl)
theorem dX7_readCity_39 : decode cX7_readCity 39 = .ok (.istore_n 2, 1) := dk_61 (dk_at dksX7_readCity_1 15 rfl rfl)
theorem dX7_readCity_40 : decode cX7_readCity 40 = .ok (.aload_n 0, 1) := dk_42 (dk_at dksX7_readCity_1 16 rfl rfl)
theorem dX7_readCity_41 : decode cX7_readCity 41 = .ok (.getfield 83, 3) := dk_180 0 83 (dk_at dksX7_readCity_1 17 rfl rfl)
theorem dX7_readCity_44 : decode cX7_readCity 44 = .ok (.iconst 5, 1) := dk_8 (dk_at dksX7_readCity_1 20 rfl rfl)
theorem dX7_readCity_45 : decode cX7_readCity 45 = .ok (.if_icmp .ne 4, 3) := dk_160 0 4 (dk_at dksX7_readCity_1 21 rfl rfl)
theorem dX7_readCity_48 : decode cX7_readCity 48 = .ok (.return_, 1) := dk_177 (dk_at dksX7_readCity_2 0 rfl rfl)
theorem dX7_readCity_49 : decode cX7_readCity 49 = .ok (.aload_n 0, 1) := dk_42 (dk_at dksX7_readCity_2 1 rfl rfl)
theorem dX7_readCity_50 : decode cX7_readCity 50 = .ok (.getfield 148, 3) := dk_180 0 148 (dk_at dksX7_readCity_2 2 rfl rfl)
theorem dX7_readCity_53 : decode cX7_readCity 53 = .ok (.iload_n 1, 1) := dk_27 (dk_at dksX7_readCity_2 5 rfl rfl)
theorem dX7_readCity_54 : decode cX7_readCity 54 = .ok (.putfield 152, 3) := dk_181 0 152 (dk_at dksX7_readCity_2 6 rfl rfl)
theorem dX7_readCity_57 : decode cX7_readCity 57 = .ok (.aload_n 0, 1) := dk_42 (dk_at dksX7_readCity_2 9 rfl rfl)
theorem dX7_readCity_58 : decode cX7_readCity 58 = .ok (.getfield 148, 3) := dk_180 0 148 (dk_at dksX7_readCity_2 10 rfl rfl)
theorem dX7_readCity_61 : decode cX7_readCity 61 = .ok (.iload_n 2, 1) := dk_28 (dk_at dksX7_readCity_2 13 rfl rfl)
theorem dX7_readCity_62 : decode cX7_readCity 62 = .ok (.putfield 198, 3) := dk_181 0 198 (dk_at dksX7_readCity_2 14 rfl rfl)
theorem dX7_readCity_65 : decode cX7_readCity 65 = .ok (.return_, 1) := dk_177 (dk_at dksX7_readCity_2 17 rfl rfl)
abbrev cX7_flaw : ByteArray := prog_14_method_18_code
def yX7_flaw : MethodName := ⟨RX7, "flaw", "(I)V"⟩
def dkwX7_flaw_1 : List UInt8 := [181, 0, 83, 177]
abbrev dktX7_flaw_1 : List UInt8 := dkwX7_flaw_1 ++ []
def dkwX7_flaw_0 : List UInt8 := [42, 180, 0, 83, 8, 160, 0, 4, 177, 42, 27, 181, 0, 109, 42, 42, 180, 0, 92, 181, 0, 112, 42, 8]
abbrev dktX7_flaw_0 : List UInt8 := dkwX7_flaw_0 ++ dktX7_flaw_1
theorem dksX7_flaw_0 : cX7_flaw.data.toList.drop 0 = dktX7_flaw_0 := by decide +kernel
theorem dksX7_flaw_1 : cX7_flaw.data.toList.drop 24 = dktX7_flaw_1 := dk_seg dksX7_flaw_0 24 rfl rfl
theorem dX7_flaw_0 : decode cX7_flaw 0 = .ok (.aload_n 0, 1) := dk_42 (dk_at dksX7_flaw_0 0 rfl rfl)
theorem dX7_flaw_1 : decode cX7_flaw 1 = .ok (.getfield 83, 3) := dk_180 0 83 (dk_at dksX7_flaw_0 1 rfl rfl)
theorem dX7_flaw_4 : decode cX7_flaw 4 = .ok (.iconst 5, 1) := dk_8 (dk_at dksX7_flaw_0 4 rfl rfl)
theorem dX7_flaw_5 : decode cX7_flaw 5 = .ok (.if_icmp .ne 4, 3) := dk_160 0 4 (dk_at dksX7_flaw_0 5 rfl rfl)
theorem dX7_flaw_8 : decode cX7_flaw 8 = .ok (.return_, 1) := dk_177 (dk_at dksX7_flaw_0 8 rfl rfl)
theorem dX7_flaw_9 : decode cX7_flaw 9 = .ok (.aload_n 0, 1) := dk_42 (dk_at dksX7_flaw_0 9 rfl rfl)
theorem dX7_flaw_10 : decode cX7_flaw 10 = .ok (.iload_n 1, 1) := dk_27 (dk_at dksX7_flaw_0 10 rfl rfl)
theorem dX7_flaw_11 : decode cX7_flaw 11 = .ok (.putfield 109, 3) := dk_181 0 109 (dk_at dksX7_flaw_0 11 rfl rfl)
theorem dX7_flaw_14 : decode cX7_flaw 14 = .ok (.aload_n 0, 1) := dk_42 (dk_at dksX7_flaw_0 14 rfl rfl)
theorem dX7_flaw_15 : decode cX7_flaw 15 = .ok (.aload_n 0, 1) := dk_42 (dk_at dksX7_flaw_0 15 rfl rfl)
theorem dX7_flaw_16 : decode cX7_flaw 16 = .ok (.getfield 92, 3) := dk_180 0 92 (dk_at dksX7_flaw_0 16 rfl rfl)
theorem dX7_flaw_19 : decode cX7_flaw 19 = .ok (.putfield 112, 3) := dk_181 0 112 (dk_at dksX7_flaw_0 19 rfl rfl)
theorem dX7_flaw_22 : decode cX7_flaw 22 = .ok (.aload_n 0, 1) := dk_42 (dk_at dksX7_flaw_0 22 rfl rfl)
theorem dX7_flaw_23 : decode cX7_flaw 23 = .ok (.iconst 5, 1) := dk_8 (dk_at dksX7_flaw_0 23 rfl rfl)
theorem dX7_flaw_24 : decode cX7_flaw 24 = .ok (.putfield 83, 3) := dk_181 0 83 (dk_at dksX7_flaw_1 0 rfl rfl)
theorem dX7_flaw_27 : decode cX7_flaw 27 = .ok (.return_, 1) := dk_177 (dk_at dksX7_flaw_1 3 rfl rfl)
abbrev cX7_readPart : ByteArray := prog_14_method_21_code
def yX7_readPart : MethodName := ⟨RX7, "readPart", "(Ljava/lang/String;II)I"⟩
def dkwX7_readPart_3 : List UInt8 := [182, 0, 119, 21, 4, 172]
abbrev dktX7_readPart_3 : List UInt8 := dkwX7_readPart_3 ++ []
def dkwX7_readPart_2 : List UInt8 := [7, 182, 0, 126, 42, 180, 0, 83, 8, 160, 0, 7, 28, 167, 0, 7, 42, 180, 0, 106, 54, 4, 42]
abbrev dktX7_readPart_2 : List UInt8 := dkwX7_readPart_2 ++ dktX7_readPart_3
def dkwX7_readPart_1 : List UInt8 := [159, 0, 11, 42, 4, 182, 0, 126, 167, 0, 20, 42, 180, 0, 106, 28, 29, 184, 0, 130, 154, 0, 8, 42]
abbrev dktX7_readPart_1 : List UInt8 := dkwX7_readPart_1 ++ dktX7_readPart_2
def dkwX7_readPart_0 : List UInt8 := [42, 43, 182, 0, 122, 154, 0, 8, 42, 4, 182, 0, 126, 42, 182, 0, 119, 42, 180, 0, 83, 6]
abbrev dktX7_readPart_0 : List UInt8 := dkwX7_readPart_0 ++ dktX7_readPart_1
theorem dksX7_readPart_0 : cX7_readPart.data.toList.drop 0 = dktX7_readPart_0 := by decide +kernel
theorem dksX7_readPart_1 : cX7_readPart.data.toList.drop 22 = dktX7_readPart_1 := dk_seg dksX7_readPart_0 22 rfl rfl
theorem dksX7_readPart_2 : cX7_readPart.data.toList.drop 46 = dktX7_readPart_2 := dk_seg dksX7_readPart_1 24 rfl rfl
theorem dksX7_readPart_3 : cX7_readPart.data.toList.drop 69 = dktX7_readPart_3 := dk_seg dksX7_readPart_2 23 rfl rfl
theorem dX7_readPart_0 : decode cX7_readPart 0 = .ok (.aload_n 0, 1) := dk_42 (dk_at dksX7_readPart_0 0 rfl rfl)
theorem dX7_readPart_1 : decode cX7_readPart 1 = .ok (.aload_n 1, 1) := dk_43 (dk_at dksX7_readPart_0 1 rfl rfl)
theorem dX7_readPart_2 : decode cX7_readPart 2 = .ok (.invokevirtual 122, 3) := dk_182 0 122 (dk_at dksX7_readPart_0 2 rfl rfl)
theorem dX7_readPart_5 : decode cX7_readPart 5 = .ok (.ifCond .ne 8, 3) := dk_154 0 8 (dk_at dksX7_readPart_0 5 rfl rfl)
theorem dX7_readPart_8 : decode cX7_readPart 8 = .ok (.aload_n 0, 1) := dk_42 (dk_at dksX7_readPart_0 8 rfl rfl)
theorem dX7_readPart_9 : decode cX7_readPart 9 = .ok (.iconst 1, 1) := dk_4 (dk_at dksX7_readPart_0 9 rfl rfl)
theorem dX7_readPart_10 : decode cX7_readPart 10 = .ok (.invokevirtual 126, 3) := dk_182 0 126 (dk_at dksX7_readPart_0 10 rfl rfl)
theorem dX7_readPart_13 : decode cX7_readPart 13 = .ok (.aload_n 0, 1) := dk_42 (dk_at dksX7_readPart_0 13 rfl rfl)
theorem dX7_readPart_14 : decode cX7_readPart 14 = .ok (.invokevirtual 119, 3) := dk_182 0 119 (dk_at dksX7_readPart_0 14 rfl rfl)
theorem dX7_readPart_17 : decode cX7_readPart 17 = .ok (.aload_n 0, 1) := dk_42 (dk_at dksX7_readPart_0 17 rfl rfl)
theorem dX7_readPart_18 : decode cX7_readPart 18 = .ok (.getfield 83, 3) := dk_180 0 83 (dk_at dksX7_readPart_0 18 rfl rfl)
theorem dX7_readPart_21 : decode cX7_readPart 21 = .ok (.iconst 3, 1) := dk_6 (dk_at dksX7_readPart_0 21 rfl rfl)
theorem dX7_readPart_22 : decode cX7_readPart 22 = .ok (.if_icmp .eq 11, 3) := dk_159 0 11 (dk_at dksX7_readPart_1 0 rfl rfl)
theorem dX7_readPart_25 : decode cX7_readPart 25 = .ok (.aload_n 0, 1) := dk_42 (dk_at dksX7_readPart_1 3 rfl rfl)
theorem dX7_readPart_26 : decode cX7_readPart 26 = .ok (.iconst 1, 1) := dk_4 (dk_at dksX7_readPart_1 4 rfl rfl)
theorem dX7_readPart_27 : decode cX7_readPart 27 = .ok (.invokevirtual 126, 3) := dk_182 0 126 (dk_at dksX7_readPart_1 5 rfl rfl)
theorem dX7_readPart_30 : decode cX7_readPart 30 = .ok (.goto 20, 3) := dk_167 0 20 (dk_at dksX7_readPart_1 8 rfl rfl)
theorem dX7_readPart_33 : decode cX7_readPart 33 = .ok (.aload_n 0, 1) := dk_42 (dk_at dksX7_readPart_1 11 rfl rfl)
theorem dX7_readPart_34 : decode cX7_readPart 34 = .ok (.getfield 106, 3) := dk_180 0 106 (dk_at dksX7_readPart_1 12 rfl rfl)
theorem dX7_readPart_37 : decode cX7_readPart 37 = .ok (.iload_n 2, 1) := dk_28 (dk_at dksX7_readPart_1 15 rfl rfl)
theorem dX7_readPart_38 : decode cX7_readPart 38 = .ok (.iload_n 3, 1) := dk_29 (dk_at dksX7_readPart_1 16 rfl rfl)
theorem dX7_readPart_39 : decode cX7_readPart 39 = .ok (.invokestatic 130, 3) := dk_184 0 130 (dk_at dksX7_readPart_1 17 rfl rfl)
theorem dX7_readPart_42 : decode cX7_readPart 42 = .ok (.ifCond .ne 8, 3) := dk_154 0 8 (dk_at dksX7_readPart_1 20 rfl rfl)
theorem dX7_readPart_45 : decode cX7_readPart 45 = .ok (.aload_n 0, 1) := dk_42 (dk_at dksX7_readPart_1 23 rfl rfl)
theorem dX7_readPart_46 : decode cX7_readPart 46 = .ok (.iconst 4, 1) := dk_7 (dk_at dksX7_readPart_2 0 rfl rfl)
theorem dX7_readPart_47 : decode cX7_readPart 47 = .ok (.invokevirtual 126, 3) := dk_182 0 126 (dk_at dksX7_readPart_2 1 rfl rfl)
theorem dX7_readPart_50 : decode cX7_readPart 50 = .ok (.aload_n 0, 1) := dk_42 (dk_at dksX7_readPart_2 4 rfl rfl)
theorem dX7_readPart_51 : decode cX7_readPart 51 = .ok (.getfield 83, 3) := dk_180 0 83 (dk_at dksX7_readPart_2 5 rfl rfl)
theorem dX7_readPart_54 : decode cX7_readPart 54 = .ok (.iconst 5, 1) := dk_8 (dk_at dksX7_readPart_2 8 rfl rfl)
theorem dX7_readPart_55 : decode cX7_readPart 55 = .ok (.if_icmp .ne 7, 3) := dk_160 0 7 (dk_at dksX7_readPart_2 9 rfl rfl)
theorem dX7_readPart_58 : decode cX7_readPart 58 = .ok (.iload_n 2, 1) := dk_28 (dk_at dksX7_readPart_2 12 rfl rfl)
theorem dX7_readPart_59 : decode cX7_readPart 59 = .ok (.goto 7, 3) := dk_167 0 7 (dk_at dksX7_readPart_2 13 rfl rfl)
theorem dX7_readPart_62 : decode cX7_readPart 62 = .ok (.aload_n 0, 1) := dk_42 (dk_at dksX7_readPart_2 16 rfl rfl)
theorem dX7_readPart_63 : decode cX7_readPart 63 = .ok (.getfield 106, 3) := dk_180 0 106 (dk_at dksX7_readPart_2 17 rfl rfl)
theorem dX7_readPart_66 : decode cX7_readPart 66 = .ok (.istore 4, 2) := dk_54 4 (dk_at dksX7_readPart_2 20 rfl rfl)
theorem dX7_readPart_68 : decode cX7_readPart 68 = .ok (.aload_n 0, 1) := dk_42 (dk_at dksX7_readPart_2 22 rfl rfl)
theorem dX7_readPart_69 : decode cX7_readPart 69 = .ok (.invokevirtual 119, 3) := dk_182 0 119 (dk_at dksX7_readPart_3 0 rfl rfl)
theorem dX7_readPart_72 : decode cX7_readPart 72 = .ok (.iload 4, 2) := dk_21 4 (dk_at dksX7_readPart_3 3 rfl rfl)
theorem dX7_readPart_74 : decode cX7_readPart 74 = .ok (.ireturn, 1) := dk_172 (dk_at dksX7_readPart_3 5 rfl rfl)
abbrev cX7_in : ByteArray := prog_14_method_8_code
def yX7_in : MethodName := ⟨RX7, "in", "(III)Z"⟩
def dkwX7_in_0 : List UInt8 := [26, 27, 161, 0, 12, 26, 28, 163, 0, 7, 4, 167, 0, 4, 3, 172]
abbrev dktX7_in_0 : List UInt8 := dkwX7_in_0 ++ []
theorem dksX7_in_0 : cX7_in.data.toList.drop 0 = dktX7_in_0 := by decide +kernel
theorem dX7_in_0 : decode cX7_in 0 = .ok (.iload_n 0, 1) := dk_26 (dk_at dksX7_in_0 0 rfl rfl)
theorem dX7_in_1 : decode cX7_in 1 = .ok (.iload_n 1, 1) := dk_27 (dk_at dksX7_in_0 1 rfl rfl)
theorem dX7_in_2 : decode cX7_in 2 = .ok (.if_icmp .lt 12, 3) := dk_161 0 12 (dk_at dksX7_in_0 2 rfl rfl)
theorem dX7_in_5 : decode cX7_in 5 = .ok (.iload_n 0, 1) := dk_26 (dk_at dksX7_in_0 5 rfl rfl)
theorem dX7_in_6 : decode cX7_in 6 = .ok (.iload_n 2, 1) := dk_28 (dk_at dksX7_in_0 6 rfl rfl)
theorem dX7_in_7 : decode cX7_in 7 = .ok (.if_icmp .gt 7, 3) := dk_163 0 7 (dk_at dksX7_in_0 7 rfl rfl)
theorem dX7_in_10 : decode cX7_in 10 = .ok (.iconst 1, 1) := dk_4 (dk_at dksX7_in_0 10 rfl rfl)
theorem dX7_in_11 : decode cX7_in 11 = .ok (.goto 4, 3) := dk_167 0 4 (dk_at dksX7_in_0 11 rfl rfl)
theorem dX7_in_14 : decode cX7_in 14 = .ok (.iconst 0, 1) := dk_3 (dk_at dksX7_in_0 14 rfl rfl)
theorem dX7_in_15 : decode cX7_in 15 = .ok (.ireturn, 1) := dk_172 (dk_at dksX7_in_0 15 rfl rfl)
abbrev cX7_readPerson : ByteArray := prog_14_method_28_code
def yX7_readPerson : MethodName := ⟨RX7, "readPerson", "()V"⟩
def dkwX7_readPerson_9 : List UInt8 := [89, 180, 0, 170, 4, 96, 181, 0, 170, 177]
abbrev dktX7_readPerson_9 : List UInt8 := dkwX7_readPerson_9 ++ []
def dkwX7_readPerson_8 : List UInt8 := [180, 0, 223, 21, 6, 21, 4, 79, 42, 180, 0, 148, 180, 0, 225, 21, 6, 21, 5, 79, 42, 180, 0, 148]
abbrev dktX7_readPerson_8 : List UInt8 := dkwX7_readPerson_8 ++ dktX7_readPerson_9
def dkwX7_readPerson_7 : List UInt8 := [180, 0, 216, 21, 6, 31, 80, 42, 180, 0, 148, 180, 0, 220, 21, 6, 29, 79, 42, 180, 0, 148]
abbrev dktX7_readPerson_7 : List UInt8 := dkwX7_readPerson_7 ++ dktX7_readPerson_8
def dkwX7_readPerson_6 : List UInt8 := [54, 5, 42, 180, 0, 83, 8, 160, 0, 4, 177, 42, 180, 0, 148, 180, 0, 170, 54, 6, 42, 180, 0, 148]
abbrev dktX7_readPerson_6 : List UInt8 := dkwX7_readPerson_6 ++ dktX7_readPerson_7
def dkwX7_readPerson_5 : List UInt8 := [42, 182, 0, 119, 42, 18, 212, 3, 16, 99, 182, 0, 192, 54, 4, 42, 18, 214, 3, 16, 100, 182, 0, 192]
abbrev dktX7_readPerson_5 : List UInt8 := dkwX7_readPerson_5 ++ dktX7_readPerson_6
def dkwX7_readPerson_4 : List UInt8 := [18, 210, 182, 0, 122, 153, 0, 7, 6, 167, 0, 4, 2, 62, 29, 2, 160, 0, 8, 42, 4, 182, 0, 126]
abbrev dktX7_readPerson_4 : List UInt8 := dkwX7_readPerson_4 ++ dktX7_readPerson_5
def dkwX7_readPerson_3 : List UInt8 := [182, 0, 122, 153, 0, 7, 4, 167, 0, 30, 42, 18, 208, 182, 0, 122, 153, 0, 7, 5, 167, 0, 17, 42]
abbrev dktX7_readPerson_3 : List UInt8 := dkwX7_readPerson_3 ++ dktX7_readPerson_4
def dkwX7_readPerson_2 : List UInt8 := [180, 0, 99, 64, 42, 182, 0, 119, 42, 18, 204, 182, 0, 122, 153, 0, 7, 3, 167, 0, 43, 42, 18, 206]
abbrev dktX7_readPerson_2 : List UInt8 := dkwX7_readPerson_2 ++ dktX7_readPerson_3
def dkwX7_readPerson_1 : List UInt8 := [182, 0, 126, 42, 180, 0, 148, 42, 180, 0, 99, 182, 0, 160, 2, 159, 0, 8, 42, 6, 182, 0, 126, 42]
abbrev dktX7_readPerson_1 : List UInt8 := dkwX7_readPerson_1 ++ dktX7_readPerson_2
def dkwX7_readPerson_0 : List UInt8 := [42, 42, 180, 0, 148, 180, 0, 170, 16, 6, 182, 0, 200, 42, 182, 0, 156, 154, 0, 8, 42, 4]
abbrev dktX7_readPerson_0 : List UInt8 := dkwX7_readPerson_0 ++ dktX7_readPerson_1
theorem dksX7_readPerson_0 : cX7_readPerson.data.toList.drop 0 = dktX7_readPerson_0 := by decide +kernel
theorem dksX7_readPerson_1 : cX7_readPerson.data.toList.drop 22 = dktX7_readPerson_1 := dk_seg dksX7_readPerson_0 22 rfl rfl
theorem dksX7_readPerson_2 : cX7_readPerson.data.toList.drop 46 = dktX7_readPerson_2 := dk_seg dksX7_readPerson_1 24 rfl rfl
theorem dksX7_readPerson_3 : cX7_readPerson.data.toList.drop 70 = dktX7_readPerson_3 := dk_seg dksX7_readPerson_2 24 rfl rfl
theorem dksX7_readPerson_4 : cX7_readPerson.data.toList.drop 94 = dktX7_readPerson_4 := dk_seg dksX7_readPerson_3 24 rfl rfl
theorem dksX7_readPerson_5 : cX7_readPerson.data.toList.drop 118 = dktX7_readPerson_5 := dk_seg dksX7_readPerson_4 24 rfl rfl
theorem dksX7_readPerson_6 : cX7_readPerson.data.toList.drop 142 = dktX7_readPerson_6 := dk_seg dksX7_readPerson_5 24 rfl rfl
theorem dksX7_readPerson_7 : cX7_readPerson.data.toList.drop 166 = dktX7_readPerson_7 := dk_seg dksX7_readPerson_6 24 rfl rfl
theorem dksX7_readPerson_8 : cX7_readPerson.data.toList.drop 188 = dktX7_readPerson_8 := dk_seg dksX7_readPerson_7 22 rfl rfl
theorem dksX7_readPerson_9 : cX7_readPerson.data.toList.drop 212 = dktX7_readPerson_9 := dk_seg dksX7_readPerson_8 24 rfl rfl
theorem dX7_readPerson_0 : decode cX7_readPerson 0 = .ok (.aload_n 0, 1) := dk_42 (dk_at dksX7_readPerson_0 0 rfl rfl)
theorem dX7_readPerson_1 : decode cX7_readPerson 1 = .ok (.aload_n 0, 1) := dk_42 (dk_at dksX7_readPerson_0 1 rfl rfl)
theorem dX7_readPerson_2 : decode cX7_readPerson 2 = .ok (.getfield 148, 3) := dk_180 0 148 (dk_at dksX7_readPerson_0 2 rfl rfl)
theorem dX7_readPerson_5 : decode cX7_readPerson 5 = .ok (.getfield 170, 3) := dk_180 0 170 (dk_at dksX7_readPerson_0 5 rfl rfl)
theorem dX7_readPerson_8 : decode cX7_readPerson 8 = .ok (.bipush 6, 2) := dk_16 6 (dk_at dksX7_readPerson_0 8 rfl rfl)
theorem dX7_readPerson_10 : decode cX7_readPerson 10 = .ok (.invokevirtual 200, 3) := dk_182 0 200 (dk_at dksX7_readPerson_0 10 rfl rfl)
theorem dX7_readPerson_13 : decode cX7_readPerson 13 = .ok (.aload_n 0, 1) := dk_42 (dk_at dksX7_readPerson_0 13 rfl rfl)
theorem dX7_readPerson_14 : decode cX7_readPerson 14 = .ok (.invokevirtual 156, 3) := dk_182 0 156 (dk_at dksX7_readPerson_0 14 rfl rfl)
theorem dX7_readPerson_17 : decode cX7_readPerson 17 = .ok (.ifCond .ne 8, 3) := dk_154 0 8 (dk_at dksX7_readPerson_0 17 rfl rfl)
theorem dX7_readPerson_20 : decode cX7_readPerson 20 = .ok (.aload_n 0, 1) := dk_42 (dk_at dksX7_readPerson_0 20 rfl rfl)
theorem dX7_readPerson_21 : decode cX7_readPerson 21 = .ok (.iconst 1, 1) := dk_4 (dk_at dksX7_readPerson_0 21 rfl rfl)
theorem dX7_readPerson_22 : decode cX7_readPerson 22 = .ok (.invokevirtual 126, 3) := dk_182 0 126 (dk_at dksX7_readPerson_1 0 rfl rfl)
theorem dX7_readPerson_25 : decode cX7_readPerson 25 = .ok (.aload_n 0, 1) := dk_42 (dk_at dksX7_readPerson_1 3 rfl rfl)
theorem dX7_readPerson_26 : decode cX7_readPerson 26 = .ok (.getfield 148, 3) := dk_180 0 148 (dk_at dksX7_readPerson_1 4 rfl rfl)
theorem dX7_readPerson_29 : decode cX7_readPerson 29 = .ok (.aload_n 0, 1) := dk_42 (dk_at dksX7_readPerson_1 7 rfl rfl)
theorem dX7_readPerson_30 : decode cX7_readPerson 30 = .ok (.getfield 99, 3) := dk_180 0 99 (dk_at dksX7_readPerson_1 8 rfl rfl)
theorem dX7_readPerson_33 : decode cX7_readPerson 33 = .ok (.invokevirtual 160, 3) := dk_182 0 160 (dk_at dksX7_readPerson_1 11 rfl rfl)
theorem dX7_readPerson_36 : decode cX7_readPerson 36 = .ok (.iconst (-1), 1) := dk_2 (dk_at dksX7_readPerson_1 14 rfl rfl)
theorem dX7_readPerson_37 : decode cX7_readPerson 37 = .ok (.if_icmp .eq 8, 3) := dk_159 0 8 (dk_at dksX7_readPerson_1 15 rfl rfl)
theorem dX7_readPerson_40 : decode cX7_readPerson 40 = .ok (.aload_n 0, 1) := dk_42 (dk_at dksX7_readPerson_1 18 rfl rfl)
theorem dX7_readPerson_41 : decode cX7_readPerson 41 = .ok (.iconst 3, 1) := dk_6 (dk_at dksX7_readPerson_1 19 rfl rfl)
theorem dX7_readPerson_42 : decode cX7_readPerson 42 = .ok (.invokevirtual 126, 3) := dk_182 0 126 (dk_at dksX7_readPerson_1 20 rfl rfl)
theorem dX7_readPerson_45 : decode cX7_readPerson 45 = .ok (.aload_n 0, 1) := dk_42 (dk_at dksX7_readPerson_1 23 rfl rfl)
theorem dX7_readPerson_46 : decode cX7_readPerson 46 = .ok (.getfield 99, 3) := dk_180 0 99 (dk_at dksX7_readPerson_2 0 rfl rfl)
theorem dX7_readPerson_49 : decode cX7_readPerson 49 = .ok (.lstore_n 1, 1) := dk_64 (dk_at dksX7_readPerson_2 3 rfl rfl)
theorem dX7_readPerson_50 : decode cX7_readPerson 50 = .ok (.aload_n 0, 1) := dk_42 (dk_at dksX7_readPerson_2 4 rfl rfl)
theorem dX7_readPerson_51 : decode cX7_readPerson 51 = .ok (.invokevirtual 119, 3) := dk_182 0 119 (dk_at dksX7_readPerson_2 5 rfl rfl)
theorem dX7_readPerson_54 : decode cX7_readPerson 54 = .ok (.aload_n 0, 1) := dk_42 (dk_at dksX7_readPerson_2 8 rfl rfl)
theorem dX7_readPerson_55 : decode cX7_readPerson 55 = .ok (.ldc 204, 2) := dk_18 204 (dk_at dksX7_readPerson_2 9 rfl rfl)
theorem dX7_readPerson_57 : decode cX7_readPerson 57 = .ok (.invokevirtual 122, 3) := dk_182 0 122 (dk_at dksX7_readPerson_2 11 rfl rfl)
theorem dX7_readPerson_60 : decode cX7_readPerson 60 = .ok (.ifCond .eq 7, 3) := dk_153 0 7 (dk_at dksX7_readPerson_2 14 rfl rfl)
theorem dX7_readPerson_63 : decode cX7_readPerson 63 = .ok (.iconst 0, 1) := dk_3 (dk_at dksX7_readPerson_2 17 rfl rfl)
theorem dX7_readPerson_64 : decode cX7_readPerson 64 = .ok (.goto 43, 3) := dk_167 0 43 (dk_at dksX7_readPerson_2 18 rfl rfl)
theorem dX7_readPerson_67 : decode cX7_readPerson 67 = .ok (.aload_n 0, 1) := dk_42 (dk_at dksX7_readPerson_2 21 rfl rfl)
theorem dX7_readPerson_68 : decode cX7_readPerson 68 = .ok (.ldc 206, 2) := dk_18 206 (dk_at dksX7_readPerson_2 22 rfl rfl)
theorem dX7_readPerson_70 : decode cX7_readPerson 70 = .ok (.invokevirtual 122, 3) := dk_182 0 122 (dk_at dksX7_readPerson_3 0 rfl rfl)
theorem dX7_readPerson_73 : decode cX7_readPerson 73 = .ok (.ifCond .eq 7, 3) := dk_153 0 7 (dk_at dksX7_readPerson_3 3 rfl rfl)
theorem dX7_readPerson_76 : decode cX7_readPerson 76 = .ok (.iconst 1, 1) := dk_4 (dk_at dksX7_readPerson_3 6 rfl rfl)
theorem dX7_readPerson_77 : decode cX7_readPerson 77 = .ok (.goto 30, 3) := dk_167 0 30 (dk_at dksX7_readPerson_3 7 rfl rfl)
theorem dX7_readPerson_80 : decode cX7_readPerson 80 = .ok (.aload_n 0, 1) := dk_42 (dk_at dksX7_readPerson_3 10 rfl rfl)
theorem dX7_readPerson_81 : decode cX7_readPerson 81 = .ok (.ldc 208, 2) := dk_18 208 (dk_at dksX7_readPerson_3 11 rfl rfl)
theorem dX7_readPerson_83 : decode cX7_readPerson 83 = .ok (.invokevirtual 122, 3) := dk_182 0 122 (dk_at dksX7_readPerson_3 13 rfl rfl)
theorem dX7_readPerson_86 : decode cX7_readPerson 86 = .ok (.ifCond .eq 7, 3) := dk_153 0 7 (dk_at dksX7_readPerson_3 16 rfl rfl)
theorem dX7_readPerson_89 : decode cX7_readPerson 89 = .ok (.iconst 2, 1) := dk_5 (dk_at dksX7_readPerson_3 19 rfl rfl)
theorem dX7_readPerson_90 : decode cX7_readPerson 90 = .ok (.goto 17, 3) := dk_167 0 17 (dk_at dksX7_readPerson_3 20 rfl rfl)
theorem dX7_readPerson_93 : decode cX7_readPerson 93 = .ok (.aload_n 0, 1) := dk_42 (dk_at dksX7_readPerson_3 23 rfl rfl)
theorem dX7_readPerson_94 : decode cX7_readPerson 94 = .ok (.ldc 210, 2) := dk_18 210 (dk_at dksX7_readPerson_4 0 rfl rfl)
theorem dX7_readPerson_96 : decode cX7_readPerson 96 = .ok (.invokevirtual 122, 3) := dk_182 0 122 (dk_at dksX7_readPerson_4 2 rfl rfl)
theorem dX7_readPerson_99 : decode cX7_readPerson 99 = .ok (.ifCond .eq 7, 3) := dk_153 0 7 (dk_at dksX7_readPerson_4 5 rfl rfl)
theorem dX7_readPerson_102 : decode cX7_readPerson 102 = .ok (.iconst 3, 1) := dk_6 (dk_at dksX7_readPerson_4 8 rfl rfl)
theorem dX7_readPerson_103 : decode cX7_readPerson 103 = .ok (.goto 4, 3) := dk_167 0 4 (dk_at dksX7_readPerson_4 9 rfl rfl)
theorem dX7_readPerson_106 : decode cX7_readPerson 106 = .ok (.iconst (-1), 1) := dk_2 (dk_at dksX7_readPerson_4 12 rfl rfl)
theorem dX7_readPerson_107 : decode cX7_readPerson 107 = .ok (.istore_n 3, 1) := dk_62 (dk_at dksX7_readPerson_4 13 rfl rfl)
theorem dX7_readPerson_108 : decode cX7_readPerson 108 = .ok (.iload_n 3, 1) := dk_29 (dk_at dksX7_readPerson_4 14 rfl rfl)
theorem dX7_readPerson_109 : decode cX7_readPerson 109 = .ok (.iconst (-1), 1) := dk_2 (dk_at dksX7_readPerson_4 15 rfl rfl)
theorem dX7_readPerson_110 : decode cX7_readPerson 110 = .ok (.if_icmp .ne 8, 3) := dk_160 0 8 (dk_at dksX7_readPerson_4 16 rfl rfl)
theorem dX7_readPerson_113 : decode cX7_readPerson 113 = .ok (.aload_n 0, 1) := dk_42 (dk_at dksX7_readPerson_4 19 rfl rfl)
theorem dX7_readPerson_114 : decode cX7_readPerson 114 = .ok (.iconst 1, 1) := dk_4 (dk_at dksX7_readPerson_4 20 rfl rfl)
theorem dX7_readPerson_115 : decode cX7_readPerson 115 = .ok (.invokevirtual 126, 3) := dk_182 0 126 (dk_at dksX7_readPerson_4 21 rfl rfl)
theorem dX7_readPerson_118 : decode cX7_readPerson 118 = .ok (.aload_n 0, 1) := dk_42 (dk_at dksX7_readPerson_5 0 rfl rfl)
theorem dX7_readPerson_119 : decode cX7_readPerson 119 = .ok (.invokevirtual 119, 3) := dk_182 0 119 (dk_at dksX7_readPerson_5 1 rfl rfl)
theorem dX7_readPerson_122 : decode cX7_readPerson 122 = .ok (.aload_n 0, 1) := dk_42 (dk_at dksX7_readPerson_5 4 rfl rfl)
theorem dX7_readPerson_123 : decode cX7_readPerson 123 = .ok (.ldc 212, 2) := dk_18 212 (dk_at dksX7_readPerson_5 5 rfl rfl)
theorem dX7_readPerson_125 : decode cX7_readPerson 125 = .ok (.iconst 0, 1) := dk_3 (dk_at dksX7_readPerson_5 7 rfl rfl)
theorem dX7_readPerson_126 : decode cX7_readPerson 126 = .ok (.bipush 99, 2) := dk_16 99 (dk_at dksX7_readPerson_5 8 rfl rfl)
theorem dX7_readPerson_128 : decode cX7_readPerson 128 = .ok (.invokevirtual 192, 3) := dk_182 0 192 (dk_at dksX7_readPerson_5 10 rfl rfl)
theorem dX7_readPerson_131 : decode cX7_readPerson 131 = .ok (.istore 4, 2) := dk_54 4 (dk_at dksX7_readPerson_5 13 rfl rfl)
theorem dX7_readPerson_133 : decode cX7_readPerson 133 = .ok (.aload_n 0, 1) := dk_42 (dk_at dksX7_readPerson_5 15 rfl rfl)
theorem dX7_readPerson_134 : decode cX7_readPerson 134 = .ok (.ldc 214, 2) := dk_18 214 (dk_at dksX7_readPerson_5 16 rfl rfl)
theorem dX7_readPerson_136 : decode cX7_readPerson 136 = .ok (.iconst 0, 1) := dk_3 (dk_at dksX7_readPerson_5 18 rfl rfl)
theorem dX7_readPerson_137 : decode cX7_readPerson 137 = .ok (.bipush 100, 2) := dk_16 100 (dk_at dksX7_readPerson_5 19 rfl rfl)
theorem dX7_readPerson_139 : decode cX7_readPerson 139 = .ok (.invokevirtual 192, 3) := dk_182 0 192 (dk_at dksX7_readPerson_5 21 rfl rfl)
theorem dX7_readPerson_142 : decode cX7_readPerson 142 = .ok (.istore 5, 2) := dk_54 5 (dk_at dksX7_readPerson_6 0 rfl rfl)
theorem dX7_readPerson_144 : decode cX7_readPerson 144 = .ok (.aload_n 0, 1) := dk_42 (dk_at dksX7_readPerson_6 2 rfl rfl)
theorem dX7_readPerson_145 : decode cX7_readPerson 145 = .ok (.getfield 83, 3) := dk_180 0 83 (dk_at dksX7_readPerson_6 3 rfl rfl)
theorem dX7_readPerson_148 : decode cX7_readPerson 148 = .ok (.iconst 5, 1) := dk_8 (dk_at dksX7_readPerson_6 6 rfl rfl)
theorem dX7_readPerson_149 : decode cX7_readPerson 149 = .ok (.if_icmp .ne 4, 3) := dk_160 0 4 (dk_at dksX7_readPerson_6 7 rfl rfl)
theorem dX7_readPerson_152 : decode cX7_readPerson 152 = .ok (.return_, 1) := dk_177 (dk_at dksX7_readPerson_6 10 rfl rfl)
theorem dX7_readPerson_153 : decode cX7_readPerson 153 = .ok (.aload_n 0, 1) := dk_42 (dk_at dksX7_readPerson_6 11 rfl rfl)
theorem dX7_readPerson_154 : decode cX7_readPerson 154 = .ok (.getfield 148, 3) := dk_180 0 148 (dk_at dksX7_readPerson_6 12 rfl rfl)
theorem dX7_readPerson_157 : decode cX7_readPerson 157 = .ok (.getfield 170, 3) := dk_180 0 170 (dk_at dksX7_readPerson_6 15 rfl rfl)
theorem dX7_readPerson_160 : decode cX7_readPerson 160 = .ok (.istore 6, 2) := dk_54 6 (dk_at dksX7_readPerson_6 18 rfl rfl)
theorem dX7_readPerson_162 : decode cX7_readPerson 162 = .ok (.aload_n 0, 1) := dk_42 (dk_at dksX7_readPerson_6 20 rfl rfl)
theorem dX7_readPerson_163 : decode cX7_readPerson 163 = .ok (.getfield 148, 3) := dk_180 0 148 (dk_at dksX7_readPerson_6 21 rfl rfl)
theorem dX7_readPerson_166 : decode cX7_readPerson 166 = .ok (.getfield 216, 3) := dk_180 0 216 (dk_at dksX7_readPerson_7 0 rfl rfl)
theorem dX7_readPerson_169 : decode cX7_readPerson 169 = .ok (.iload 6, 2) := dk_21 6 (dk_at dksX7_readPerson_7 3 rfl rfl)
theorem dX7_readPerson_171 : decode cX7_readPerson 171 = .ok (.lload_n 1, 1) := dk_31 (dk_at dksX7_readPerson_7 5 rfl rfl)
theorem dX7_readPerson_172 : decode cX7_readPerson 172 = .ok (.lastore, 1) := dk_80 (dk_at dksX7_readPerson_7 6 rfl rfl)
theorem dX7_readPerson_173 : decode cX7_readPerson 173 = .ok (.aload_n 0, 1) := dk_42 (dk_at dksX7_readPerson_7 7 rfl rfl)
theorem dX7_readPerson_174 : decode cX7_readPerson 174 = .ok (.getfield 148, 3) := dk_180 0 148 (dk_at dksX7_readPerson_7 8 rfl rfl)
theorem dX7_readPerson_177 : decode cX7_readPerson 177 = .ok (.getfield 220, 3) := dk_180 0 220 (dk_at dksX7_readPerson_7 11 rfl rfl)
theorem dX7_readPerson_180 : decode cX7_readPerson 180 = .ok (.iload 6, 2) := dk_21 6 (dk_at dksX7_readPerson_7 14 rfl rfl)
theorem dX7_readPerson_182 : decode cX7_readPerson 182 = .ok (.iload_n 3, 1) := dk_29 (dk_at dksX7_readPerson_7 16 rfl rfl)
theorem dX7_readPerson_183 : decode cX7_readPerson 183 = .ok (.iastore, 1) := dk_79 (dk_at dksX7_readPerson_7 17 rfl rfl)
theorem dX7_readPerson_184 : decode cX7_readPerson 184 = .ok (.aload_n 0, 1) := dk_42 (dk_at dksX7_readPerson_7 18 rfl rfl)
theorem dX7_readPerson_185 : decode cX7_readPerson 185 = .ok (.getfield 148, 3) := dk_180 0 148 (dk_at dksX7_readPerson_7 19 rfl rfl)
theorem dX7_readPerson_188 : decode cX7_readPerson 188 = .ok (.getfield 223, 3) := dk_180 0 223 (dk_at dksX7_readPerson_8 0 rfl rfl)
theorem dX7_readPerson_191 : decode cX7_readPerson 191 = .ok (.iload 6, 2) := dk_21 6 (dk_at dksX7_readPerson_8 3 rfl rfl)
theorem dX7_readPerson_193 : decode cX7_readPerson 193 = .ok (.iload 4, 2) := dk_21 4 (dk_at dksX7_readPerson_8 5 rfl rfl)
theorem dX7_readPerson_195 : decode cX7_readPerson 195 = .ok (.iastore, 1) := dk_79 (dk_at dksX7_readPerson_8 7 rfl rfl)
theorem dX7_readPerson_196 : decode cX7_readPerson 196 = .ok (.aload_n 0, 1) := dk_42 (dk_at dksX7_readPerson_8 8 rfl rfl)
theorem dX7_readPerson_197 : decode cX7_readPerson 197 = .ok (.getfield 148, 3) := dk_180 0 148 (dk_at dksX7_readPerson_8 9 rfl rfl)
theorem dX7_readPerson_200 : decode cX7_readPerson 200 = .ok (.getfield 225, 3) := dk_180 0 225 (dk_at dksX7_readPerson_8 12 rfl rfl)
theorem dX7_readPerson_203 : decode cX7_readPerson 203 = .ok (.iload 6, 2) := dk_21 6 (dk_at dksX7_readPerson_8 15 rfl rfl)
theorem dX7_readPerson_205 : decode cX7_readPerson 205 = .ok (.iload 5, 2) := dk_21 5 (dk_at dksX7_readPerson_8 17 rfl rfl)
theorem dX7_readPerson_207 : decode cX7_readPerson 207 = .ok (.iastore, 1) := dk_79 (dk_at dksX7_readPerson_8 19 rfl rfl)
theorem dX7_readPerson_208 : decode cX7_readPerson 208 = .ok (.aload_n 0, 1) := dk_42 (dk_at dksX7_readPerson_8 20 rfl rfl)
theorem dX7_readPerson_209 : decode cX7_readPerson 209 = .ok (.getfield 148, 3) := dk_180 0 148 (dk_at dksX7_readPerson_8 21 rfl rfl)
theorem dX7_readPerson_212 : decode cX7_readPerson 212 = .ok (.dup, 1) := dk_89 (dk_at dksX7_readPerson_9 0 rfl rfl)
theorem dX7_readPerson_213 : decode cX7_readPerson 213 = .ok (.getfield 170, 3) := dk_180 0 170 (dk_at dksX7_readPerson_9 1 rfl rfl)
theorem dX7_readPerson_216 : decode cX7_readPerson 216 = .ok (.iconst 1, 1) := dk_4 (dk_at dksX7_readPerson_9 4 rfl rfl)
theorem dX7_readPerson_217 : decode cX7_readPerson 217 = .ok (.iadd, 1) := dk_96 (dk_at dksX7_readPerson_9 5 rfl rfl)
theorem dX7_readPerson_218 : decode cX7_readPerson 218 = .ok (.putfield 170, 3) := dk_181 0 170 (dk_at dksX7_readPerson_9 6 rfl rfl)
theorem dX7_readPerson_221 : decode cX7_readPerson 221 = .ok (.return_, 1) := dk_177 (dk_at dksX7_readPerson_9 9 rfl rfl)
abbrev cX7_lineBegins : ByteArray := prog_14_method_23_code
def yX7_lineBegins : MethodName := ⟨RX7, "lineBegins", "(II)V"⟩
def dkwX7_lineBegins_1 : List UInt8 := [182, 0, 126, 42, 182, 0, 119, 177]
abbrev dktX7_lineBegins_1 : List UInt8 := dkwX7_lineBegins_1 ++ []
def dkwX7_lineBegins_0 : List UInt8 := [27, 28, 160, 0, 8, 42, 8, 182, 0, 126, 42, 180, 0, 148, 180, 0, 152, 2, 160, 0, 9, 42, 16, 6]
abbrev dktX7_lineBegins_0 : List UInt8 := dkwX7_lineBegins_0 ++ dktX7_lineBegins_1
theorem dksX7_lineBegins_0 : cX7_lineBegins.data.toList.drop 0 = dktX7_lineBegins_0 := by decide +kernel
theorem dksX7_lineBegins_1 : cX7_lineBegins.data.toList.drop 24 = dktX7_lineBegins_1 := dk_seg dksX7_lineBegins_0 24 rfl rfl
theorem dX7_lineBegins_0 : decode cX7_lineBegins 0 = .ok (.iload_n 1, 1) := dk_27 (dk_at dksX7_lineBegins_0 0 rfl rfl)
theorem dX7_lineBegins_1 : decode cX7_lineBegins 1 = .ok (.iload_n 2, 1) := dk_28 (dk_at dksX7_lineBegins_0 1 rfl rfl)
theorem dX7_lineBegins_2 : decode cX7_lineBegins 2 = .ok (.if_icmp .ne 8, 3) := dk_160 0 8 (dk_at dksX7_lineBegins_0 2 rfl rfl)
theorem dX7_lineBegins_5 : decode cX7_lineBegins 5 = .ok (.aload_n 0, 1) := dk_42 (dk_at dksX7_lineBegins_0 5 rfl rfl)
theorem dX7_lineBegins_6 : decode cX7_lineBegins 6 = .ok (.iconst 5, 1) := dk_8 (dk_at dksX7_lineBegins_0 6 rfl rfl)
theorem dX7_lineBegins_7 : decode cX7_lineBegins 7 = .ok (.invokevirtual 126, 3) := dk_182 0 126 (dk_at dksX7_lineBegins_0 7 rfl rfl)
theorem dX7_lineBegins_10 : decode cX7_lineBegins 10 = .ok (.aload_n 0, 1) := dk_42 (dk_at dksX7_lineBegins_0 10 rfl rfl)
theorem dX7_lineBegins_11 : decode cX7_lineBegins 11 = .ok (.getfield 148, 3) := dk_180 0 148 (dk_at dksX7_lineBegins_0 11 rfl rfl)
theorem dX7_lineBegins_14 : decode cX7_lineBegins 14 = .ok (.getfield 152, 3) := dk_180 0 152 (dk_at dksX7_lineBegins_0 14 rfl rfl)
theorem dX7_lineBegins_17 : decode cX7_lineBegins 17 = .ok (.iconst (-1), 1) := dk_2 (dk_at dksX7_lineBegins_0 17 rfl rfl)
theorem dX7_lineBegins_18 : decode cX7_lineBegins 18 = .ok (.if_icmp .ne 9, 3) := dk_160 0 9 (dk_at dksX7_lineBegins_0 18 rfl rfl)
theorem dX7_lineBegins_21 : decode cX7_lineBegins 21 = .ok (.aload_n 0, 1) := dk_42 (dk_at dksX7_lineBegins_0 21 rfl rfl)
theorem dX7_lineBegins_22 : decode cX7_lineBegins 22 = .ok (.bipush 6, 2) := dk_16 6 (dk_at dksX7_lineBegins_0 22 rfl rfl)
theorem dX7_lineBegins_24 : decode cX7_lineBegins 24 = .ok (.invokevirtual 126, 3) := dk_182 0 126 (dk_at dksX7_lineBegins_1 0 rfl rfl)
theorem dX7_lineBegins_27 : decode cX7_lineBegins 27 = .ok (.aload_n 0, 1) := dk_42 (dk_at dksX7_lineBegins_1 3 rfl rfl)
theorem dX7_lineBegins_28 : decode cX7_lineBegins 28 = .ok (.invokevirtual 119, 3) := dk_182 0 119 (dk_at dksX7_lineBegins_1 4 rfl rfl)
theorem dX7_lineBegins_31 : decode cX7_lineBegins 31 = .ok (.return_, 1) := dk_177 (dk_at dksX7_lineBegins_1 7 rfl rfl)
abbrev cX7_isName : ByteArray := prog_14_method_22_code
def yX7_isName : MethodName := ⟨RX7, "isName", "()Z"⟩
def dkwX7_isName_3 : List UInt8 := [154, 0, 7, 4, 167, 0, 4, 3, 172]
abbrev dktX7_isName_3 : List UInt8 := dkwX7_isName_3 ++ []
def dkwX7_isName_2 : List UInt8 := [18, 142, 182, 0, 122, 154, 0, 25, 42, 18, 144, 182, 0, 122, 154, 0, 16, 42, 18, 146, 182, 0, 122]
abbrev dktX7_isName_2 : List UInt8 := dkwX7_isName_2 ++ dktX7_isName_3
def dkwX7_isName_1 : List UInt8 := [154, 0, 21, 42, 18, 138, 182, 0, 122, 154, 0, 12, 42, 18, 140, 182, 0, 122, 153, 0, 5, 3, 172, 42]
abbrev dktX7_isName_1 : List UInt8 := dkwX7_isName_1 ++ dktX7_isName_2
def dkwX7_isName_0 : List UInt8 := [42, 180, 0, 83, 5, 160, 0, 39, 42, 18, 134, 182, 0, 122, 154, 0, 30, 42, 18, 136, 182, 0, 122]
abbrev dktX7_isName_0 : List UInt8 := dkwX7_isName_0 ++ dktX7_isName_1
theorem dksX7_isName_0 : cX7_isName.data.toList.drop 0 = dktX7_isName_0 := by decide +kernel
theorem dksX7_isName_1 : cX7_isName.data.toList.drop 23 = dktX7_isName_1 := dk_seg dksX7_isName_0 23 rfl rfl
theorem dksX7_isName_2 : cX7_isName.data.toList.drop 47 = dktX7_isName_2 := dk_seg dksX7_isName_1 24 rfl rfl
theorem dksX7_isName_3 : cX7_isName.data.toList.drop 70 = dktX7_isName_3 := dk_seg dksX7_isName_2 23 rfl rfl
theorem dX7_isName_0 : decode cX7_isName 0 = .ok (.aload_n 0, 1) := dk_42 (dk_at dksX7_isName_0 0 rfl rfl)
theorem dX7_isName_1 : decode cX7_isName 1 = .ok (.getfield 83, 3) := dk_180 0 83 (dk_at dksX7_isName_0 1 rfl rfl)
theorem dX7_isName_4 : decode cX7_isName 4 = .ok (.iconst 2, 1) := dk_5 (dk_at dksX7_isName_0 4 rfl rfl)
theorem dX7_isName_5 : decode cX7_isName 5 = .ok (.if_icmp .ne 39, 3) := dk_160 0 39 (dk_at dksX7_isName_0 5 rfl rfl)
theorem dX7_isName_8 : decode cX7_isName 8 = .ok (.aload_n 0, 1) := dk_42 (dk_at dksX7_isName_0 8 rfl rfl)
theorem dX7_isName_9 : decode cX7_isName 9 = .ok (.ldc 134, 2) := dk_18 134 (dk_at dksX7_isName_0 9 rfl rfl)
theorem dX7_isName_11 : decode cX7_isName 11 = .ok (.invokevirtual 122, 3) := dk_182 0 122 (dk_at dksX7_isName_0 11 rfl rfl)
theorem dX7_isName_14 : decode cX7_isName 14 = .ok (.ifCond .ne 30, 3) := dk_154 0 30 (dk_at dksX7_isName_0 14 rfl rfl)
theorem dX7_isName_17 : decode cX7_isName 17 = .ok (.aload_n 0, 1) := dk_42 (dk_at dksX7_isName_0 17 rfl rfl)
theorem dX7_isName_18 : decode cX7_isName 18 = .ok (.ldc 136, 2) := dk_18 136 (dk_at dksX7_isName_0 18 rfl rfl)
theorem dX7_isName_20 : decode cX7_isName 20 = .ok (.invokevirtual 122, 3) := dk_182 0 122 (dk_at dksX7_isName_0 20 rfl rfl)
theorem dX7_isName_23 : decode cX7_isName 23 = .ok (.ifCond .ne 21, 3) := dk_154 0 21 (dk_at dksX7_isName_1 0 rfl rfl)
theorem dX7_isName_26 : decode cX7_isName 26 = .ok (.aload_n 0, 1) := dk_42 (dk_at dksX7_isName_1 3 rfl rfl)
theorem dX7_isName_27 : decode cX7_isName 27 = .ok (.ldc 138, 2) := dk_18 138 (dk_at dksX7_isName_1 4 rfl rfl)
theorem dX7_isName_29 : decode cX7_isName 29 = .ok (.invokevirtual 122, 3) := dk_182 0 122 (dk_at dksX7_isName_1 6 rfl rfl)
theorem dX7_isName_32 : decode cX7_isName 32 = .ok (.ifCond .ne 12, 3) := dk_154 0 12 (dk_at dksX7_isName_1 9 rfl rfl)
theorem dX7_isName_35 : decode cX7_isName 35 = .ok (.aload_n 0, 1) := dk_42 (dk_at dksX7_isName_1 12 rfl rfl)
theorem dX7_isName_36 : decode cX7_isName 36 = .ok (.ldc 140, 2) := dk_18 140 (dk_at dksX7_isName_1 13 rfl rfl)
theorem dX7_isName_38 : decode cX7_isName 38 = .ok (.invokevirtual 122, 3) := dk_182 0 122 (dk_at dksX7_isName_1 15 rfl rfl)
theorem dX7_isName_41 : decode cX7_isName 41 = .ok (.ifCond .eq 5, 3) := dk_153 0 5 (dk_at dksX7_isName_1 18 rfl rfl)
theorem dX7_isName_44 : decode cX7_isName 44 = .ok (.iconst 0, 1) := dk_3 (dk_at dksX7_isName_1 21 rfl rfl)
theorem dX7_isName_45 : decode cX7_isName 45 = .ok (.ireturn, 1) := dk_172 (dk_at dksX7_isName_1 22 rfl rfl)
theorem dX7_isName_46 : decode cX7_isName 46 = .ok (.aload_n 0, 1) := dk_42 (dk_at dksX7_isName_1 23 rfl rfl)
theorem dX7_isName_47 : decode cX7_isName 47 = .ok (.ldc 142, 2) := dk_18 142 (dk_at dksX7_isName_2 0 rfl rfl)
theorem dX7_isName_49 : decode cX7_isName 49 = .ok (.invokevirtual 122, 3) := dk_182 0 122 (dk_at dksX7_isName_2 2 rfl rfl)
theorem dX7_isName_52 : decode cX7_isName 52 = .ok (.ifCond .ne 25, 3) := dk_154 0 25 (dk_at dksX7_isName_2 5 rfl rfl)
theorem dX7_isName_55 : decode cX7_isName 55 = .ok (.aload_n 0, 1) := dk_42 (dk_at dksX7_isName_2 8 rfl rfl)
theorem dX7_isName_56 : decode cX7_isName 56 = .ok (.ldc 144, 2) := dk_18 144 (dk_at dksX7_isName_2 9 rfl rfl)
theorem dX7_isName_58 : decode cX7_isName 58 = .ok (.invokevirtual 122, 3) := dk_182 0 122 (dk_at dksX7_isName_2 11 rfl rfl)
theorem dX7_isName_61 : decode cX7_isName 61 = .ok (.ifCond .ne 16, 3) := dk_154 0 16 (dk_at dksX7_isName_2 14 rfl rfl)
theorem dX7_isName_64 : decode cX7_isName 64 = .ok (.aload_n 0, 1) := dk_42 (dk_at dksX7_isName_2 17 rfl rfl)
theorem dX7_isName_65 : decode cX7_isName 65 = .ok (.ldc 146, 2) := dk_18 146 (dk_at dksX7_isName_2 18 rfl rfl)
theorem dX7_isName_67 : decode cX7_isName 67 = .ok (.invokevirtual 122, 3) := dk_182 0 122 (dk_at dksX7_isName_2 20 rfl rfl)
theorem dX7_isName_70 : decode cX7_isName 70 = .ok (.ifCond .ne 7, 3) := dk_154 0 7 (dk_at dksX7_isName_3 0 rfl rfl)
theorem dX7_isName_73 : decode cX7_isName 73 = .ok (.iconst 1, 1) := dk_4 (dk_at dksX7_isName_3 3 rfl rfl)
theorem dX7_isName_74 : decode cX7_isName 74 = .ok (.goto 4, 3) := dk_167 0 4 (dk_at dksX7_isName_3 4 rfl rfl)
theorem dX7_isName_77 : decode cX7_isName 77 = .ok (.iconst 0, 1) := dk_3 (dk_at dksX7_isName_3 7 rfl rfl)
theorem dX7_isName_78 : decode cX7_isName 78 = .ok (.ireturn, 1) := dk_172 (dk_at dksX7_isName_3 8 rfl rfl)
abbrev cX7_readNear : ByteArray := prog_14_method_29_code
def yX7_readNear : MethodName := ⟨RX7, "readNear", "()V"⟩
def dkwX7_readNear_5 : List UInt8 := [177]
abbrev dktX7_readNear_5 : List UInt8 := dkwX7_readNear_5 ++ []
def dkwX7_readNear_4 : List UInt8 := [180, 0, 233, 28, 92, 46, 4, 27, 120, 128, 79, 42, 180, 0, 148, 89, 180, 0, 227, 4, 96, 181, 0, 227]
abbrev dktX7_readNear_4 : List UInt8 := dkwX7_readNear_4 ++ dktX7_readNear_5
def dkwX7_readNear_3 : List UInt8 := [160, 0, 4, 177, 42, 180, 0, 148, 180, 0, 233, 27, 92, 46, 4, 28, 120, 128, 79, 42, 180, 0, 148]
abbrev dktX7_readNear_3 : List UInt8 := dkwX7_readNear_3 ++ dktX7_readNear_4
def dkwX7_readNear_2 : List UInt8 := [27, 46, 28, 184, 0, 235, 153, 0, 8, 42, 6, 182, 0, 126, 42, 182, 0, 119, 42, 180, 0, 83, 8]
abbrev dktX7_readNear_2 : List UInt8 := dkwX7_readNear_2 ++ dktX7_readNear_3
def dkwX7_readNear_1 : List UInt8 := [182, 0, 230, 61, 42, 180, 0, 83, 8, 159, 0, 29, 27, 28, 159, 0, 19, 42, 180, 0, 148, 180, 0, 233]
abbrev dktX7_readNear_1 : List UInt8 := dkwX7_readNear_1 ++ dktX7_readNear_2
def dkwX7_readNear_0 : List UInt8 := [42, 42, 180, 0, 148, 180, 0, 227, 16, 9, 182, 0, 200, 42, 182, 0, 230, 60, 42, 182, 0, 119, 42]
abbrev dktX7_readNear_0 : List UInt8 := dkwX7_readNear_0 ++ dktX7_readNear_1
theorem dksX7_readNear_0 : cX7_readNear.data.toList.drop 0 = dktX7_readNear_0 := by decide +kernel
theorem dksX7_readNear_1 : cX7_readNear.data.toList.drop 23 = dktX7_readNear_1 := dk_seg dksX7_readNear_0 23 rfl rfl
theorem dksX7_readNear_2 : cX7_readNear.data.toList.drop 47 = dktX7_readNear_2 := dk_seg dksX7_readNear_1 24 rfl rfl
theorem dksX7_readNear_3 : cX7_readNear.data.toList.drop 70 = dktX7_readNear_3 := dk_seg dksX7_readNear_2 23 rfl rfl
theorem dksX7_readNear_4 : cX7_readNear.data.toList.drop 93 = dktX7_readNear_4 := dk_seg dksX7_readNear_3 23 rfl rfl
theorem dksX7_readNear_5 : cX7_readNear.data.toList.drop 117 = dktX7_readNear_5 := dk_seg dksX7_readNear_4 24 rfl rfl
theorem dX7_readNear_0 : decode cX7_readNear 0 = .ok (.aload_n 0, 1) := dk_42 (dk_at dksX7_readNear_0 0 rfl rfl)
theorem dX7_readNear_1 : decode cX7_readNear 1 = .ok (.aload_n 0, 1) := dk_42 (dk_at dksX7_readNear_0 1 rfl rfl)
theorem dX7_readNear_2 : decode cX7_readNear 2 = .ok (.getfield 148, 3) := dk_180 0 148 (dk_at dksX7_readNear_0 2 rfl rfl)
theorem dX7_readNear_5 : decode cX7_readNear 5 = .ok (.getfield 227, 3) := dk_180 0 227 (dk_at dksX7_readNear_0 5 rfl rfl)
theorem dX7_readNear_8 : decode cX7_readNear 8 = .ok (.bipush 9, 2) := dk_16 9 (dk_at dksX7_readNear_0 8 rfl rfl)
theorem dX7_readNear_10 : decode cX7_readNear 10 = .ok (.invokevirtual 200, 3) := dk_182 0 200 (dk_at dksX7_readNear_0 10 rfl rfl)
theorem dX7_readNear_13 : decode cX7_readNear 13 = .ok (.aload_n 0, 1) := dk_42 (dk_at dksX7_readNear_0 13 rfl rfl)
theorem dX7_readNear_14 : decode cX7_readNear 14 = .ok (.invokevirtual 230, 3) := dk_182 0 230 (dk_at dksX7_readNear_0 14 rfl rfl)
theorem dX7_readNear_17 : decode cX7_readNear 17 = .ok (.istore_n 1, 1) := dk_60 (dk_at dksX7_readNear_0 17 rfl rfl)
theorem dX7_readNear_18 : decode cX7_readNear 18 = .ok (.aload_n 0, 1) := dk_42 (dk_at dksX7_readNear_0 18 rfl rfl)
theorem dX7_readNear_19 : decode cX7_readNear 19 = .ok (.invokevirtual 119, 3) := dk_182 0 119 (dk_at dksX7_readNear_0 19 rfl rfl)
theorem dX7_readNear_22 : decode cX7_readNear 22 = .ok (.aload_n 0, 1) := dk_42 (dk_at dksX7_readNear_0 22 rfl rfl)
theorem dX7_readNear_23 : decode cX7_readNear 23 = .ok (.invokevirtual 230, 3) := dk_182 0 230 (dk_at dksX7_readNear_1 0 rfl rfl)
theorem dX7_readNear_26 : decode cX7_readNear 26 = .ok (.istore_n 2, 1) := dk_61 (dk_at dksX7_readNear_1 3 rfl rfl)
theorem dX7_readNear_27 : decode cX7_readNear 27 = .ok (.aload_n 0, 1) := dk_42 (dk_at dksX7_readNear_1 4 rfl rfl)
theorem dX7_readNear_28 : decode cX7_readNear 28 = .ok (.getfield 83, 3) := dk_180 0 83 (dk_at dksX7_readNear_1 5 rfl rfl)
theorem dX7_readNear_31 : decode cX7_readNear 31 = .ok (.iconst 5, 1) := dk_8 (dk_at dksX7_readNear_1 8 rfl rfl)
theorem dX7_readNear_32 : decode cX7_readNear 32 = .ok (.if_icmp .eq 29, 3) := dk_159 0 29 (dk_at dksX7_readNear_1 9 rfl rfl)
theorem dX7_readNear_35 : decode cX7_readNear 35 = .ok (.iload_n 1, 1) := dk_27 (dk_at dksX7_readNear_1 12 rfl rfl)
theorem dX7_readNear_36 : decode cX7_readNear 36 = .ok (.iload_n 2, 1) := dk_28 (dk_at dksX7_readNear_1 13 rfl rfl)
theorem dX7_readNear_37 : decode cX7_readNear 37 = .ok (.if_icmp .eq 19, 3) := dk_159 0 19 (dk_at dksX7_readNear_1 14 rfl rfl)
theorem dX7_readNear_40 : decode cX7_readNear 40 = .ok (.aload_n 0, 1) := dk_42 (dk_at dksX7_readNear_1 17 rfl rfl)
theorem dX7_readNear_41 : decode cX7_readNear 41 = .ok (.getfield 148, 3) := dk_180 0 148 (dk_at dksX7_readNear_1 18 rfl rfl)
theorem dX7_readNear_44 : decode cX7_readNear 44 = .ok (.getfield 233, 3) := dk_180 0 233 (dk_at dksX7_readNear_1 21 rfl rfl)
theorem dX7_readNear_47 : decode cX7_readNear 47 = .ok (.iload_n 1, 1) := dk_27 (dk_at dksX7_readNear_2 0 rfl rfl)
theorem dX7_readNear_48 : decode cX7_readNear 48 = .ok (.iaload, 1) := dk_46 (dk_at dksX7_readNear_2 1 rfl rfl)
theorem dX7_readNear_49 : decode cX7_readNear 49 = .ok (.iload_n 2, 1) := dk_28 (dk_at dksX7_readNear_2 2 rfl rfl)
theorem dX7_readNear_50 : decode cX7_readNear 50 = .ok (.invokestatic 235, 3) := dk_184 0 235 (dk_at dksX7_readNear_2 3 rfl rfl)
theorem dX7_readNear_53 : decode cX7_readNear 53 = .ok (.ifCond .eq 8, 3) := dk_153 0 8 (dk_at dksX7_readNear_2 6 rfl rfl)
theorem dX7_readNear_56 : decode cX7_readNear 56 = .ok (.aload_n 0, 1) := dk_42 (dk_at dksX7_readNear_2 9 rfl rfl)
theorem dX7_readNear_57 : decode cX7_readNear 57 = .ok (.iconst 3, 1) := dk_6 (dk_at dksX7_readNear_2 10 rfl rfl)
theorem dX7_readNear_58 : decode cX7_readNear 58 = .ok (.invokevirtual 126, 3) := dk_182 0 126 (dk_at dksX7_readNear_2 11 rfl rfl)
theorem dX7_readNear_61 : decode cX7_readNear 61 = .ok (.aload_n 0, 1) := dk_42 (dk_at dksX7_readNear_2 14 rfl rfl)
theorem dX7_readNear_62 : decode cX7_readNear 62 = .ok (.invokevirtual 119, 3) := dk_182 0 119 (dk_at dksX7_readNear_2 15 rfl rfl)
theorem dX7_readNear_65 : decode cX7_readNear 65 = .ok (.aload_n 0, 1) := dk_42 (dk_at dksX7_readNear_2 18 rfl rfl)
theorem dX7_readNear_66 : decode cX7_readNear 66 = .ok (.getfield 83, 3) := dk_180 0 83 (dk_at dksX7_readNear_2 19 rfl rfl)
theorem dX7_readNear_69 : decode cX7_readNear 69 = .ok (.iconst 5, 1) := dk_8 (dk_at dksX7_readNear_2 22 rfl rfl)
theorem dX7_readNear_70 : decode cX7_readNear 70 = .ok (.if_icmp .ne 4, 3) := dk_160 0 4 (dk_at dksX7_readNear_3 0 rfl rfl)
theorem dX7_readNear_73 : decode cX7_readNear 73 = .ok (.return_, 1) := dk_177 (dk_at dksX7_readNear_3 3 rfl rfl)
theorem dX7_readNear_74 : decode cX7_readNear 74 = .ok (.aload_n 0, 1) := dk_42 (dk_at dksX7_readNear_3 4 rfl rfl)
theorem dX7_readNear_75 : decode cX7_readNear 75 = .ok (.getfield 148, 3) := dk_180 0 148 (dk_at dksX7_readNear_3 5 rfl rfl)
theorem dX7_readNear_78 : decode cX7_readNear 78 = .ok (.getfield 233, 3) := dk_180 0 233 (dk_at dksX7_readNear_3 8 rfl rfl)
theorem dX7_readNear_81 : decode cX7_readNear 81 = .ok (.iload_n 1, 1) := dk_27 (dk_at dksX7_readNear_3 11 rfl rfl)
theorem dX7_readNear_82 : decode cX7_readNear 82 = .ok (.dup2, 1) := dk_92 (dk_at dksX7_readNear_3 12 rfl rfl)
theorem dX7_readNear_83 : decode cX7_readNear 83 = .ok (.iaload, 1) := dk_46 (dk_at dksX7_readNear_3 13 rfl rfl)
theorem dX7_readNear_84 : decode cX7_readNear 84 = .ok (.iconst 1, 1) := dk_4 (dk_at dksX7_readNear_3 14 rfl rfl)
theorem dX7_readNear_85 : decode cX7_readNear 85 = .ok (.iload_n 2, 1) := dk_28 (dk_at dksX7_readNear_3 15 rfl rfl)
theorem dX7_readNear_86 : decode cX7_readNear 86 = .ok (.ishl, 1) := dk_120 (dk_at dksX7_readNear_3 16 rfl rfl)
theorem dX7_readNear_87 : decode cX7_readNear 87 = .ok (.ior, 1) := dk_128 (dk_at dksX7_readNear_3 17 rfl rfl)
theorem dX7_readNear_88 : decode cX7_readNear 88 = .ok (.iastore, 1) := dk_79 (dk_at dksX7_readNear_3 18 rfl rfl)
theorem dX7_readNear_89 : decode cX7_readNear 89 = .ok (.aload_n 0, 1) := dk_42 (dk_at dksX7_readNear_3 19 rfl rfl)
theorem dX7_readNear_90 : decode cX7_readNear 90 = .ok (.getfield 148, 3) := dk_180 0 148 (dk_at dksX7_readNear_3 20 rfl rfl)
theorem dX7_readNear_93 : decode cX7_readNear 93 = .ok (.getfield 233, 3) := dk_180 0 233 (dk_at dksX7_readNear_4 0 rfl rfl)
theorem dX7_readNear_96 : decode cX7_readNear 96 = .ok (.iload_n 2, 1) := dk_28 (dk_at dksX7_readNear_4 3 rfl rfl)
theorem dX7_readNear_97 : decode cX7_readNear 97 = .ok (.dup2, 1) := dk_92 (dk_at dksX7_readNear_4 4 rfl rfl)
theorem dX7_readNear_98 : decode cX7_readNear 98 = .ok (.iaload, 1) := dk_46 (dk_at dksX7_readNear_4 5 rfl rfl)
theorem dX7_readNear_99 : decode cX7_readNear 99 = .ok (.iconst 1, 1) := dk_4 (dk_at dksX7_readNear_4 6 rfl rfl)
theorem dX7_readNear_100 : decode cX7_readNear 100 = .ok (.iload_n 1, 1) := dk_27 (dk_at dksX7_readNear_4 7 rfl rfl)
theorem dX7_readNear_101 : decode cX7_readNear 101 = .ok (.ishl, 1) := dk_120 (dk_at dksX7_readNear_4 8 rfl rfl)
theorem dX7_readNear_102 : decode cX7_readNear 102 = .ok (.ior, 1) := dk_128 (dk_at dksX7_readNear_4 9 rfl rfl)
theorem dX7_readNear_103 : decode cX7_readNear 103 = .ok (.iastore, 1) := dk_79 (dk_at dksX7_readNear_4 10 rfl rfl)
theorem dX7_readNear_104 : decode cX7_readNear 104 = .ok (.aload_n 0, 1) := dk_42 (dk_at dksX7_readNear_4 11 rfl rfl)
theorem dX7_readNear_105 : decode cX7_readNear 105 = .ok (.getfield 148, 3) := dk_180 0 148 (dk_at dksX7_readNear_4 12 rfl rfl)
theorem dX7_readNear_108 : decode cX7_readNear 108 = .ok (.dup, 1) := dk_89 (dk_at dksX7_readNear_4 15 rfl rfl)
theorem dX7_readNear_109 : decode cX7_readNear 109 = .ok (.getfield 227, 3) := dk_180 0 227 (dk_at dksX7_readNear_4 16 rfl rfl)
theorem dX7_readNear_112 : decode cX7_readNear 112 = .ok (.iconst 1, 1) := dk_4 (dk_at dksX7_readNear_4 19 rfl rfl)
theorem dX7_readNear_113 : decode cX7_readNear 113 = .ok (.iadd, 1) := dk_96 (dk_at dksX7_readNear_4 20 rfl rfl)
theorem dX7_readNear_114 : decode cX7_readNear 114 = .ok (.putfield 227, 3) := dk_181 0 227 (dk_at dksX7_readNear_4 21 rfl rfl)
theorem dX7_readNear_117 : decode cX7_readNear 117 = .ok (.return_, 1) := dk_177 (dk_at dksX7_readNear_5 0 rfl rfl)
abbrev cX7_personAtHand : ByteArray := prog_14_method_24_code
def yX7_personAtHand : MethodName := ⟨RX7, "personAtHand", "()I"⟩
def dkwX7_personAtHand_1 : List UInt8 := [27, 2, 160, 0, 8, 42, 5, 182, 0, 126, 42, 180, 0, 83, 8, 160, 0, 7, 3, 167, 0, 4, 27, 172]
abbrev dktX7_personAtHand_1 : List UInt8 := dkwX7_personAtHand_1 ++ []
def dkwX7_personAtHand_0 : List UInt8 := [42, 182, 0, 156, 154, 0, 8, 42, 4, 182, 0, 126, 42, 180, 0, 148, 42, 180, 0, 99, 182, 0, 160, 60]
abbrev dktX7_personAtHand_0 : List UInt8 := dkwX7_personAtHand_0 ++ dktX7_personAtHand_1
theorem dksX7_personAtHand_0 : cX7_personAtHand.data.toList.drop 0 = dktX7_personAtHand_0 := by decide +kernel
theorem dksX7_personAtHand_1 : cX7_personAtHand.data.toList.drop 24 = dktX7_personAtHand_1 := dk_seg dksX7_personAtHand_0 24 rfl rfl
theorem dX7_personAtHand_0 : decode cX7_personAtHand 0 = .ok (.aload_n 0, 1) := dk_42 (dk_at dksX7_personAtHand_0 0 rfl rfl)
theorem dX7_personAtHand_1 : decode cX7_personAtHand 1 = .ok (.invokevirtual 156, 3) := dk_182 0 156 (dk_at dksX7_personAtHand_0 1 rfl rfl)
theorem dX7_personAtHand_4 : decode cX7_personAtHand 4 = .ok (.ifCond .ne 8, 3) := dk_154 0 8 (dk_at dksX7_personAtHand_0 4 rfl rfl)
theorem dX7_personAtHand_7 : decode cX7_personAtHand 7 = .ok (.aload_n 0, 1) := dk_42 (dk_at dksX7_personAtHand_0 7 rfl rfl)
theorem dX7_personAtHand_8 : decode cX7_personAtHand 8 = .ok (.iconst 1, 1) := dk_4 (dk_at dksX7_personAtHand_0 8 rfl rfl)
theorem dX7_personAtHand_9 : decode cX7_personAtHand 9 = .ok (.invokevirtual 126, 3) := dk_182 0 126 (dk_at dksX7_personAtHand_0 9 rfl rfl)
theorem dX7_personAtHand_12 : decode cX7_personAtHand 12 = .ok (.aload_n 0, 1) := dk_42 (dk_at dksX7_personAtHand_0 12 rfl rfl)
theorem dX7_personAtHand_13 : decode cX7_personAtHand 13 = .ok (.getfield 148, 3) := dk_180 0 148 (dk_at dksX7_personAtHand_0 13 rfl rfl)
theorem dX7_personAtHand_16 : decode cX7_personAtHand 16 = .ok (.aload_n 0, 1) := dk_42 (dk_at dksX7_personAtHand_0 16 rfl rfl)
theorem dX7_personAtHand_17 : decode cX7_personAtHand 17 = .ok (.getfield 99, 3) := dk_180 0 99 (dk_at dksX7_personAtHand_0 17 rfl rfl)
theorem dX7_personAtHand_20 : decode cX7_personAtHand 20 = .ok (.invokevirtual 160, 3) := dk_182 0 160 (dk_at dksX7_personAtHand_0 20 rfl rfl)
theorem dX7_personAtHand_23 : decode cX7_personAtHand 23 = .ok (.istore_n 1, 1) := dk_60 (dk_at dksX7_personAtHand_0 23 rfl rfl)
theorem dX7_personAtHand_24 : decode cX7_personAtHand 24 = .ok (.iload_n 1, 1) := dk_27 (dk_at dksX7_personAtHand_1 0 rfl rfl)
theorem dX7_personAtHand_25 : decode cX7_personAtHand 25 = .ok (.iconst (-1), 1) := dk_2 (dk_at dksX7_personAtHand_1 1 rfl rfl)
theorem dX7_personAtHand_26 : decode cX7_personAtHand 26 = .ok (.if_icmp .ne 8, 3) := dk_160 0 8 (dk_at dksX7_personAtHand_1 2 rfl rfl)
theorem dX7_personAtHand_29 : decode cX7_personAtHand 29 = .ok (.aload_n 0, 1) := dk_42 (dk_at dksX7_personAtHand_1 5 rfl rfl)
theorem dX7_personAtHand_30 : decode cX7_personAtHand 30 = .ok (.iconst 2, 1) := dk_5 (dk_at dksX7_personAtHand_1 6 rfl rfl)
theorem dX7_personAtHand_31 : decode cX7_personAtHand 31 = .ok (.invokevirtual 126, 3) := dk_182 0 126 (dk_at dksX7_personAtHand_1 7 rfl rfl)
theorem dX7_personAtHand_34 : decode cX7_personAtHand 34 = .ok (.aload_n 0, 1) := dk_42 (dk_at dksX7_personAtHand_1 10 rfl rfl)
theorem dX7_personAtHand_35 : decode cX7_personAtHand 35 = .ok (.getfield 83, 3) := dk_180 0 83 (dk_at dksX7_personAtHand_1 11 rfl rfl)
theorem dX7_personAtHand_38 : decode cX7_personAtHand 38 = .ok (.iconst 5, 1) := dk_8 (dk_at dksX7_personAtHand_1 14 rfl rfl)
theorem dX7_personAtHand_39 : decode cX7_personAtHand 39 = .ok (.if_icmp .ne 7, 3) := dk_160 0 7 (dk_at dksX7_personAtHand_1 15 rfl rfl)
theorem dX7_personAtHand_42 : decode cX7_personAtHand 42 = .ok (.iconst 0, 1) := dk_3 (dk_at dksX7_personAtHand_1 18 rfl rfl)
theorem dX7_personAtHand_43 : decode cX7_personAtHand 43 = .ok (.goto 4, 3) := dk_167 0 4 (dk_at dksX7_personAtHand_1 19 rfl rfl)
theorem dX7_personAtHand_46 : decode cX7_personAtHand 46 = .ok (.iload_n 1, 1) := dk_27 (dk_at dksX7_personAtHand_1 22 rfl rfl)
theorem dX7_personAtHand_47 : decode cX7_personAtHand 47 = .ok (.ireturn, 1) := dk_172 (dk_at dksX7_personAtHand_1 23 rfl rfl)
abbrev cX7_bit : ByteArray := prog_14_method_9_code
def yX7_bit : MethodName := ⟨RX7, "bit", "(II)Z"⟩
def dkwX7_bit_0 : List UInt8 := [26, 27, 122, 4, 126, 4, 160, 0, 7, 4, 167, 0, 4, 3, 172]
abbrev dktX7_bit_0 : List UInt8 := dkwX7_bit_0 ++ []
theorem dksX7_bit_0 : cX7_bit.data.toList.drop 0 = dktX7_bit_0 := by decide +kernel
theorem dX7_bit_0 : decode cX7_bit 0 = .ok (.iload_n 0, 1) := dk_26 (dk_at dksX7_bit_0 0 rfl rfl)
theorem dX7_bit_1 : decode cX7_bit 1 = .ok (.iload_n 1, 1) := dk_27 (dk_at dksX7_bit_0 1 rfl rfl)
theorem dX7_bit_2 : decode cX7_bit 2 = .ok (.ishr, 1) := dk_122 (dk_at dksX7_bit_0 2 rfl rfl)
theorem dX7_bit_3 : decode cX7_bit 3 = .ok (.iconst 1, 1) := dk_4 (dk_at dksX7_bit_0 3 rfl rfl)
theorem dX7_bit_4 : decode cX7_bit 4 = .ok (.iand, 1) := dk_126 (dk_at dksX7_bit_0 4 rfl rfl)
theorem dX7_bit_5 : decode cX7_bit 5 = .ok (.iconst 1, 1) := dk_4 (dk_at dksX7_bit_0 5 rfl rfl)
theorem dX7_bit_6 : decode cX7_bit 6 = .ok (.if_icmp .ne 7, 3) := dk_160 0 7 (dk_at dksX7_bit_0 6 rfl rfl)
theorem dX7_bit_9 : decode cX7_bit 9 = .ok (.iconst 1, 1) := dk_4 (dk_at dksX7_bit_0 9 rfl rfl)
theorem dX7_bit_10 : decode cX7_bit 10 = .ok (.goto 4, 3) := dk_167 0 4 (dk_at dksX7_bit_0 10 rfl rfl)
theorem dX7_bit_13 : decode cX7_bit 13 = .ok (.iconst 0, 1) := dk_3 (dk_at dksX7_bit_0 13 rfl rfl)
theorem dX7_bit_14 : decode cX7_bit 14 = .ok (.ireturn, 1) := dk_172 (dk_at dksX7_bit_0 14 rfl rfl)
abbrev cX7_readAsked : ByteArray := prog_14_method_31_code
def yX7_readAsked : MethodName := ⟨RX7, "readAsked", "()V"⟩
def dkwX7_readAsked_3 : List UInt8 := [181, 0, 247, 177]
abbrev dktX7_readAsked_3 : List UInt8 := dkwX7_readAsked_3 ++ []
def dkwX7_readAsked_2 : List UInt8 := [180, 0, 242, 16, 6, 27, 104, 42, 180, 0, 239, 96, 28, 79, 42, 180, 0, 148, 89, 180, 0, 247, 4, 96]
abbrev dktX7_readAsked_2 : List UInt8 := dkwX7_readAsked_2 ++ dktX7_readAsked_3
def dkwX7_readAsked_1 : List UInt8 := [180, 0, 148, 180, 0, 152, 182, 0, 192, 61, 42, 180, 0, 83, 8, 160, 0, 4, 177, 42, 180, 0, 148]
abbrev dktX7_readAsked_1 : List UInt8 := dkwX7_readAsked_1 ++ dktX7_readAsked_2
def dkwX7_readAsked_0 : List UInt8 := [42, 42, 180, 0, 148, 180, 0, 247, 16, 12, 182, 0, 200, 42, 182, 0, 250, 60, 42, 18, 253, 3, 42]
abbrev dktX7_readAsked_0 : List UInt8 := dkwX7_readAsked_0 ++ dktX7_readAsked_1
theorem dksX7_readAsked_0 : cX7_readAsked.data.toList.drop 0 = dktX7_readAsked_0 := by decide +kernel
theorem dksX7_readAsked_1 : cX7_readAsked.data.toList.drop 23 = dktX7_readAsked_1 := dk_seg dksX7_readAsked_0 23 rfl rfl
theorem dksX7_readAsked_2 : cX7_readAsked.data.toList.drop 46 = dktX7_readAsked_2 := dk_seg dksX7_readAsked_1 23 rfl rfl
theorem dksX7_readAsked_3 : cX7_readAsked.data.toList.drop 70 = dktX7_readAsked_3 := dk_seg dksX7_readAsked_2 24 rfl rfl
theorem dX7_readAsked_0 : decode cX7_readAsked 0 = .ok (.aload_n 0, 1) := dk_42 (dk_at dksX7_readAsked_0 0 rfl rfl)
theorem dX7_readAsked_1 : decode cX7_readAsked 1 = .ok (.aload_n 0, 1) := dk_42 (dk_at dksX7_readAsked_0 1 rfl rfl)
theorem dX7_readAsked_2 : decode cX7_readAsked 2 = .ok (.getfield 148, 3) := dk_180 0 148 (dk_at dksX7_readAsked_0 2 rfl rfl)
theorem dX7_readAsked_5 : decode cX7_readAsked 5 = .ok (.getfield 247, 3) := dk_180 0 247 (dk_at dksX7_readAsked_0 5 rfl rfl)
theorem dX7_readAsked_8 : decode cX7_readAsked 8 = .ok (.bipush 12, 2) := dk_16 12 (dk_at dksX7_readAsked_0 8 rfl rfl)
theorem dX7_readAsked_10 : decode cX7_readAsked 10 = .ok (.invokevirtual 200, 3) := dk_182 0 200 (dk_at dksX7_readAsked_0 10 rfl rfl)
theorem dX7_readAsked_13 : decode cX7_readAsked 13 = .ok (.aload_n 0, 1) := dk_42 (dk_at dksX7_readAsked_0 13 rfl rfl)
theorem dX7_readAsked_14 : decode cX7_readAsked 14 = .ok (.invokevirtual 250, 3) := dk_182 0 250 (dk_at dksX7_readAsked_0 14 rfl rfl)
theorem dX7_readAsked_17 : decode cX7_readAsked 17 = .ok (.istore_n 1, 1) := dk_60 (dk_at dksX7_readAsked_0 17 rfl rfl)
theorem dX7_readAsked_18 : decode cX7_readAsked 18 = .ok (.aload_n 0, 1) := dk_42 (dk_at dksX7_readAsked_0 18 rfl rfl)
theorem dX7_readAsked_19 : decode cX7_readAsked 19 = .ok (.ldc 253, 2) := dk_18 253 (dk_at dksX7_readAsked_0 19 rfl rfl)
theorem dX7_readAsked_21 : decode cX7_readAsked 21 = .ok (.iconst 0, 1) := dk_3 (dk_at dksX7_readAsked_0 21 rfl rfl)
theorem dX7_readAsked_22 : decode cX7_readAsked 22 = .ok (.aload_n 0, 1) := dk_42 (dk_at dksX7_readAsked_0 22 rfl rfl)
theorem dX7_readAsked_23 : decode cX7_readAsked 23 = .ok (.getfield 148, 3) := dk_180 0 148 (dk_at dksX7_readAsked_1 0 rfl rfl)
theorem dX7_readAsked_26 : decode cX7_readAsked 26 = .ok (.getfield 152, 3) := dk_180 0 152 (dk_at dksX7_readAsked_1 3 rfl rfl)
theorem dX7_readAsked_29 : decode cX7_readAsked 29 = .ok (.invokevirtual 192, 3) := dk_182 0 192 (dk_at dksX7_readAsked_1 6 rfl rfl)
theorem dX7_readAsked_32 : decode cX7_readAsked 32 = .ok (.istore_n 2, 1) := dk_61 (dk_at dksX7_readAsked_1 9 rfl rfl)
theorem dX7_readAsked_33 : decode cX7_readAsked 33 = .ok (.aload_n 0, 1) := dk_42 (dk_at dksX7_readAsked_1 10 rfl rfl)
theorem dX7_readAsked_34 : decode cX7_readAsked 34 = .ok (.getfield 83, 3) := dk_180 0 83 (dk_at dksX7_readAsked_1 11 rfl rfl)
theorem dX7_readAsked_37 : decode cX7_readAsked 37 = .ok (.iconst 5, 1) := dk_8 (dk_at dksX7_readAsked_1 14 rfl rfl)
theorem dX7_readAsked_38 : decode cX7_readAsked 38 = .ok (.if_icmp .ne 4, 3) := dk_160 0 4 (dk_at dksX7_readAsked_1 15 rfl rfl)
theorem dX7_readAsked_41 : decode cX7_readAsked 41 = .ok (.return_, 1) := dk_177 (dk_at dksX7_readAsked_1 18 rfl rfl)
theorem dX7_readAsked_42 : decode cX7_readAsked 42 = .ok (.aload_n 0, 1) := dk_42 (dk_at dksX7_readAsked_1 19 rfl rfl)
theorem dX7_readAsked_43 : decode cX7_readAsked 43 = .ok (.getfield 148, 3) := dk_180 0 148 (dk_at dksX7_readAsked_1 20 rfl rfl)
theorem dX7_readAsked_46 : decode cX7_readAsked 46 = .ok (.getfield 242, 3) := dk_180 0 242 (dk_at dksX7_readAsked_2 0 rfl rfl)
theorem dX7_readAsked_49 : decode cX7_readAsked 49 = .ok (.bipush 6, 2) := dk_16 6 (dk_at dksX7_readAsked_2 3 rfl rfl)
theorem dX7_readAsked_51 : decode cX7_readAsked 51 = .ok (.iload_n 1, 1) := dk_27 (dk_at dksX7_readAsked_2 5 rfl rfl)
theorem dX7_readAsked_52 : decode cX7_readAsked 52 = .ok (.imul, 1) := dk_104 (dk_at dksX7_readAsked_2 6 rfl rfl)
theorem dX7_readAsked_53 : decode cX7_readAsked 53 = .ok (.aload_n 0, 1) := dk_42 (dk_at dksX7_readAsked_2 7 rfl rfl)
theorem dX7_readAsked_54 : decode cX7_readAsked 54 = .ok (.getfield 239, 3) := dk_180 0 239 (dk_at dksX7_readAsked_2 8 rfl rfl)
theorem dX7_readAsked_57 : decode cX7_readAsked 57 = .ok (.iadd, 1) := dk_96 (dk_at dksX7_readAsked_2 11 rfl rfl)
theorem dX7_readAsked_58 : decode cX7_readAsked 58 = .ok (.iload_n 2, 1) := dk_28 (dk_at dksX7_readAsked_2 12 rfl rfl)
theorem dX7_readAsked_59 : decode cX7_readAsked 59 = .ok (.iastore, 1) := dk_79 (dk_at dksX7_readAsked_2 13 rfl rfl)
theorem dX7_readAsked_60 : decode cX7_readAsked 60 = .ok (.aload_n 0, 1) := dk_42 (dk_at dksX7_readAsked_2 14 rfl rfl)
theorem dX7_readAsked_61 : decode cX7_readAsked 61 = .ok (.getfield 148, 3) := dk_180 0 148 (dk_at dksX7_readAsked_2 15 rfl rfl)
theorem dX7_readAsked_64 : decode cX7_readAsked 64 = .ok (.dup, 1) := dk_89 (dk_at dksX7_readAsked_2 18 rfl rfl)
theorem dX7_readAsked_65 : decode cX7_readAsked 65 = .ok (.getfield 247, 3) := dk_180 0 247 (dk_at dksX7_readAsked_2 19 rfl rfl)
theorem dX7_readAsked_68 : decode cX7_readAsked 68 = .ok (.iconst 1, 1) := dk_4 (dk_at dksX7_readAsked_2 22 rfl rfl)
theorem dX7_readAsked_69 : decode cX7_readAsked 69 = .ok (.iadd, 1) := dk_96 (dk_at dksX7_readAsked_2 23 rfl rfl)
theorem dX7_readAsked_70 : decode cX7_readAsked 70 = .ok (.putfield 247, 3) := dk_181 0 247 (dk_at dksX7_readAsked_3 0 rfl rfl)
theorem dX7_readAsked_73 : decode cX7_readAsked 73 = .ok (.return_, 1) := dk_177 (dk_at dksX7_readAsked_3 3 rfl rfl)
abbrev cX7_readPair : ByteArray := prog_14_method_30_code
def yX7_readPair : MethodName := ⟨RX7, "readPair", "()I"⟩
def dkwX7_readPair_5 : List UInt8 := [42, 182, 0, 119, 27, 172]
abbrev dktX7_readPair_5 : List UInt8 := dkwX7_readPair_5 ++ []
def dkwX7_readPair_4 : List UInt8 := [159, 0, 24, 42, 180, 0, 148, 27, 42, 180, 0, 239, 182, 0, 244, 154, 0, 9, 42, 16, 7, 182, 0, 126]
abbrev dktX7_readPair_4 : List UInt8 := dkwX7_readPair_4 ++ dktX7_readPair_5
def dkwX7_readPair_3 : List UInt8 := [27, 104, 42, 180, 0, 239, 96, 46, 2, 159, 0, 8, 42, 6, 182, 0, 126, 42, 180, 0, 83, 8]
abbrev dktX7_readPair_3 : List UInt8 := dkwX7_readPair_3 ++ dktX7_readPair_4
def dkwX7_readPair_2 : List UInt8 := [180, 0, 83, 8, 159, 0, 37, 27, 42, 180, 0, 239, 159, 0, 24, 42, 180, 0, 148, 180, 0, 242, 16, 6]
abbrev dktX7_readPair_2 : List UInt8 := dkwX7_readPair_2 ++ dktX7_readPair_3
def dkwX7_readPair_1 : List UInt8 := [160, 0, 9, 42, 16, 7, 182, 0, 126, 42, 182, 0, 119, 42, 42, 182, 0, 230, 181, 0, 239, 42]
abbrev dktX7_readPair_1 : List UInt8 := dkwX7_readPair_1 ++ dktX7_readPair_2
def dkwX7_readPair_0 : List UInt8 := [42, 182, 0, 230, 60, 42, 180, 0, 83, 8, 159, 0, 22, 42, 180, 0, 148, 180, 0, 220, 27, 46, 6]
abbrev dktX7_readPair_0 : List UInt8 := dkwX7_readPair_0 ++ dktX7_readPair_1
theorem dksX7_readPair_0 : cX7_readPair.data.toList.drop 0 = dktX7_readPair_0 := by decide +kernel
theorem dksX7_readPair_1 : cX7_readPair.data.toList.drop 23 = dktX7_readPair_1 := dk_seg dksX7_readPair_0 23 rfl rfl
theorem dksX7_readPair_2 : cX7_readPair.data.toList.drop 45 = dktX7_readPair_2 := dk_seg dksX7_readPair_1 22 rfl rfl
theorem dksX7_readPair_3 : cX7_readPair.data.toList.drop 69 = dktX7_readPair_3 := dk_seg dksX7_readPair_2 24 rfl rfl
theorem dksX7_readPair_4 : cX7_readPair.data.toList.drop 91 = dktX7_readPair_4 := dk_seg dksX7_readPair_3 22 rfl rfl
theorem dksX7_readPair_5 : cX7_readPair.data.toList.drop 115 = dktX7_readPair_5 := dk_seg dksX7_readPair_4 24 rfl rfl
theorem dX7_readPair_0 : decode cX7_readPair 0 = .ok (.aload_n 0, 1) := dk_42 (dk_at dksX7_readPair_0 0 rfl rfl)
theorem dX7_readPair_1 : decode cX7_readPair 1 = .ok (.invokevirtual 230, 3) := dk_182 0 230 (dk_at dksX7_readPair_0 1 rfl rfl)
theorem dX7_readPair_4 : decode cX7_readPair 4 = .ok (.istore_n 1, 1) := dk_60 (dk_at dksX7_readPair_0 4 rfl rfl)
theorem dX7_readPair_5 : decode cX7_readPair 5 = .ok (.aload_n 0, 1) := dk_42 (dk_at dksX7_readPair_0 5 rfl rfl)
theorem dX7_readPair_6 : decode cX7_readPair 6 = .ok (.getfield 83, 3) := dk_180 0 83 (dk_at dksX7_readPair_0 6 rfl rfl)
theorem dX7_readPair_9 : decode cX7_readPair 9 = .ok (.iconst 5, 1) := dk_8 (dk_at dksX7_readPair_0 9 rfl rfl)
theorem dX7_readPair_10 : decode cX7_readPair 10 = .ok (.if_icmp .eq 22, 3) := dk_159 0 22 (dk_at dksX7_readPair_0 10 rfl rfl)
theorem dX7_readPair_13 : decode cX7_readPair 13 = .ok (.aload_n 0, 1) := dk_42 (dk_at dksX7_readPair_0 13 rfl rfl)
theorem dX7_readPair_14 : decode cX7_readPair 14 = .ok (.getfield 148, 3) := dk_180 0 148 (dk_at dksX7_readPair_0 14 rfl rfl)
theorem dX7_readPair_17 : decode cX7_readPair 17 = .ok (.getfield 220, 3) := dk_180 0 220 (dk_at dksX7_readPair_0 17 rfl rfl)
theorem dX7_readPair_20 : decode cX7_readPair 20 = .ok (.iload_n 1, 1) := dk_27 (dk_at dksX7_readPair_0 20 rfl rfl)
theorem dX7_readPair_21 : decode cX7_readPair 21 = .ok (.iaload, 1) := dk_46 (dk_at dksX7_readPair_0 21 rfl rfl)
theorem dX7_readPair_22 : decode cX7_readPair 22 = .ok (.iconst 3, 1) := dk_6 (dk_at dksX7_readPair_0 22 rfl rfl)
theorem dX7_readPair_23 : decode cX7_readPair 23 = .ok (.if_icmp .ne 9, 3) := dk_160 0 9 (dk_at dksX7_readPair_1 0 rfl rfl)
theorem dX7_readPair_26 : decode cX7_readPair 26 = .ok (.aload_n 0, 1) := dk_42 (dk_at dksX7_readPair_1 3 rfl rfl)
theorem dX7_readPair_27 : decode cX7_readPair 27 = .ok (.bipush 7, 2) := dk_16 7 (dk_at dksX7_readPair_1 4 rfl rfl)
theorem dX7_readPair_29 : decode cX7_readPair 29 = .ok (.invokevirtual 126, 3) := dk_182 0 126 (dk_at dksX7_readPair_1 6 rfl rfl)
theorem dX7_readPair_32 : decode cX7_readPair 32 = .ok (.aload_n 0, 1) := dk_42 (dk_at dksX7_readPair_1 9 rfl rfl)
theorem dX7_readPair_33 : decode cX7_readPair 33 = .ok (.invokevirtual 119, 3) := dk_182 0 119 (dk_at dksX7_readPair_1 10 rfl rfl)
theorem dX7_readPair_36 : decode cX7_readPair 36 = .ok (.aload_n 0, 1) := dk_42 (dk_at dksX7_readPair_1 13 rfl rfl)
theorem dX7_readPair_37 : decode cX7_readPair 37 = .ok (.aload_n 0, 1) := dk_42 (dk_at dksX7_readPair_1 14 rfl rfl)
theorem dX7_readPair_38 : decode cX7_readPair 38 = .ok (.invokevirtual 230, 3) := dk_182 0 230 (dk_at dksX7_readPair_1 15 rfl rfl)
theorem dX7_readPair_41 : decode cX7_readPair 41 = .ok (.putfield 239, 3) := dk_181 0 239 (dk_at dksX7_readPair_1 18 rfl rfl)
theorem dX7_readPair_44 : decode cX7_readPair 44 = .ok (.aload_n 0, 1) := dk_42 (dk_at dksX7_readPair_1 21 rfl rfl)
theorem dX7_readPair_45 : decode cX7_readPair 45 = .ok (.getfield 83, 3) := dk_180 0 83 (dk_at dksX7_readPair_2 0 rfl rfl)
theorem dX7_readPair_48 : decode cX7_readPair 48 = .ok (.iconst 5, 1) := dk_8 (dk_at dksX7_readPair_2 3 rfl rfl)
theorem dX7_readPair_49 : decode cX7_readPair 49 = .ok (.if_icmp .eq 37, 3) := dk_159 0 37 (dk_at dksX7_readPair_2 4 rfl rfl)
theorem dX7_readPair_52 : decode cX7_readPair 52 = .ok (.iload_n 1, 1) := dk_27 (dk_at dksX7_readPair_2 7 rfl rfl)
theorem dX7_readPair_53 : decode cX7_readPair 53 = .ok (.aload_n 0, 1) := dk_42 (dk_at dksX7_readPair_2 8 rfl rfl)
theorem dX7_readPair_54 : decode cX7_readPair 54 = .ok (.getfield 239, 3) := dk_180 0 239 (dk_at dksX7_readPair_2 9 rfl rfl)
theorem dX7_readPair_57 : decode cX7_readPair 57 = .ok (.if_icmp .eq 24, 3) := dk_159 0 24 (dk_at dksX7_readPair_2 12 rfl rfl)
theorem dX7_readPair_60 : decode cX7_readPair 60 = .ok (.aload_n 0, 1) := dk_42 (dk_at dksX7_readPair_2 15 rfl rfl)
theorem dX7_readPair_61 : decode cX7_readPair 61 = .ok (.getfield 148, 3) := dk_180 0 148 (dk_at dksX7_readPair_2 16 rfl rfl)
theorem dX7_readPair_64 : decode cX7_readPair 64 = .ok (.getfield 242, 3) := dk_180 0 242 (dk_at dksX7_readPair_2 19 rfl rfl)
theorem dX7_readPair_67 : decode cX7_readPair 67 = .ok (.bipush 6, 2) := dk_16 6 (dk_at dksX7_readPair_2 22 rfl rfl)
theorem dX7_readPair_69 : decode cX7_readPair 69 = .ok (.iload_n 1, 1) := dk_27 (dk_at dksX7_readPair_3 0 rfl rfl)
theorem dX7_readPair_70 : decode cX7_readPair 70 = .ok (.imul, 1) := dk_104 (dk_at dksX7_readPair_3 1 rfl rfl)
theorem dX7_readPair_71 : decode cX7_readPair 71 = .ok (.aload_n 0, 1) := dk_42 (dk_at dksX7_readPair_3 2 rfl rfl)
theorem dX7_readPair_72 : decode cX7_readPair 72 = .ok (.getfield 239, 3) := dk_180 0 239 (dk_at dksX7_readPair_3 3 rfl rfl)
theorem dX7_readPair_75 : decode cX7_readPair 75 = .ok (.iadd, 1) := dk_96 (dk_at dksX7_readPair_3 6 rfl rfl)
theorem dX7_readPair_76 : decode cX7_readPair 76 = .ok (.iaload, 1) := dk_46 (dk_at dksX7_readPair_3 7 rfl rfl)
theorem dX7_readPair_77 : decode cX7_readPair 77 = .ok (.iconst (-1), 1) := dk_2 (dk_at dksX7_readPair_3 8 rfl rfl)
theorem dX7_readPair_78 : decode cX7_readPair 78 = .ok (.if_icmp .eq 8, 3) := dk_159 0 8 (dk_at dksX7_readPair_3 9 rfl rfl)
theorem dX7_readPair_81 : decode cX7_readPair 81 = .ok (.aload_n 0, 1) := dk_42 (dk_at dksX7_readPair_3 12 rfl rfl)
theorem dX7_readPair_82 : decode cX7_readPair 82 = .ok (.iconst 3, 1) := dk_6 (dk_at dksX7_readPair_3 13 rfl rfl)
theorem dX7_readPair_83 : decode cX7_readPair 83 = .ok (.invokevirtual 126, 3) := dk_182 0 126 (dk_at dksX7_readPair_3 14 rfl rfl)
theorem dX7_readPair_86 : decode cX7_readPair 86 = .ok (.aload_n 0, 1) := dk_42 (dk_at dksX7_readPair_3 17 rfl rfl)
theorem dX7_readPair_87 : decode cX7_readPair 87 = .ok (.getfield 83, 3) := dk_180 0 83 (dk_at dksX7_readPair_3 18 rfl rfl)
theorem dX7_readPair_90 : decode cX7_readPair 90 = .ok (.iconst 5, 1) := dk_8 (dk_at dksX7_readPair_3 21 rfl rfl)
theorem dX7_readPair_91 : decode cX7_readPair 91 = .ok (.if_icmp .eq 24, 3) := dk_159 0 24 (dk_at dksX7_readPair_4 0 rfl rfl)
theorem dX7_readPair_94 : decode cX7_readPair 94 = .ok (.aload_n 0, 1) := dk_42 (dk_at dksX7_readPair_4 3 rfl rfl)
theorem dX7_readPair_95 : decode cX7_readPair 95 = .ok (.getfield 148, 3) := dk_180 0 148 (dk_at dksX7_readPair_4 4 rfl rfl)
theorem dX7_readPair_98 : decode cX7_readPair 98 = .ok (.iload_n 1, 1) := dk_27 (dk_at dksX7_readPair_4 7 rfl rfl)
theorem dX7_readPair_99 : decode cX7_readPair 99 = .ok (.aload_n 0, 1) := dk_42 (dk_at dksX7_readPair_4 8 rfl rfl)
theorem dX7_readPair_100 : decode cX7_readPair 100 = .ok (.getfield 239, 3) := dk_180 0 239 (dk_at dksX7_readPair_4 9 rfl rfl)
theorem dX7_readPair_103 : decode cX7_readPair 103 = .ok (.invokevirtual 244, 3) := dk_182 0 244 (dk_at dksX7_readPair_4 12 rfl rfl)
theorem dX7_readPair_106 : decode cX7_readPair 106 = .ok (.ifCond .ne 9, 3) := dk_154 0 9 (dk_at dksX7_readPair_4 15 rfl rfl)
theorem dX7_readPair_109 : decode cX7_readPair 109 = .ok (.aload_n 0, 1) := dk_42 (dk_at dksX7_readPair_4 18 rfl rfl)
theorem dX7_readPair_110 : decode cX7_readPair 110 = .ok (.bipush 7, 2) := dk_16 7 (dk_at dksX7_readPair_4 19 rfl rfl)
theorem dX7_readPair_112 : decode cX7_readPair 112 = .ok (.invokevirtual 126, 3) := dk_182 0 126 (dk_at dksX7_readPair_4 21 rfl rfl)
theorem dX7_readPair_115 : decode cX7_readPair 115 = .ok (.aload_n 0, 1) := dk_42 (dk_at dksX7_readPair_5 0 rfl rfl)
theorem dX7_readPair_116 : decode cX7_readPair 116 = .ok (.invokevirtual 119, 3) := dk_182 0 119 (dk_at dksX7_readPair_5 1 rfl rfl)
theorem dX7_readPair_119 : decode cX7_readPair 119 = .ok (.iload_n 1, 1) := dk_27 (dk_at dksX7_readPair_5 4 rfl rfl)
theorem dX7_readPair_120 : decode cX7_readPair 120 = .ok (.ireturn, 1) := dk_172 (dk_at dksX7_readPair_5 5 rfl rfl)
abbrev cX7_readHeard : ByteArray := prog_14_method_32_code
def yX7_readHeard : MethodName := ⟨RX7, "readHeard", "()V"⟩
def dkwX7_readHeard_5 : List UInt8 := [180, 0, 255, 29, 79, 42, 180, 0, 148, 89, 180, 0, 255, 4, 96, 181, 0, 255, 177]
abbrev dktX7_readHeard_5 : List UInt8 := dkwX7_readHeard_5 ++ []
def dkwX7_readHeard_4 : List UInt8 := [180, 0, 148, 180, 0, 255, 42, 180, 0, 239, 79, 42, 180, 0, 148, 180, 1, 10, 42, 180, 0, 148]
abbrev dktX7_readHeard_4 : List UInt8 := dkwX7_readHeard_4 ++ dktX7_readHeard_5
def dkwX7_readHeard_3 : List UInt8 := [180, 0, 148, 180, 1, 4, 42, 180, 0, 148, 180, 0, 255, 27, 79, 42, 180, 0, 148, 180, 1, 7, 42]
abbrev dktX7_readHeard_3 : List UInt8 := dkwX7_readHeard_3 ++ dktX7_readHeard_4
def dkwX7_readHeard_2 : List UInt8 := [8, 160, 0, 4, 177, 42, 180, 0, 148, 180, 0, 242, 16, 6, 27, 104, 42, 180, 0, 239, 96, 28, 79, 42]
abbrev dktX7_readHeard_2 : List UInt8 := dkwX7_readHeard_2 ++ dktX7_readHeard_3
def dkwX7_readHeard_1 : List UInt8 := [180, 0, 148, 180, 0, 152, 182, 0, 192, 61, 42, 19, 1, 2, 3, 6, 182, 0, 192, 62, 42, 180, 0, 83]
abbrev dktX7_readHeard_1 : List UInt8 := dkwX7_readHeard_1 ++ dktX7_readHeard_2
def dkwX7_readHeard_0 : List UInt8 := [42, 42, 180, 0, 148, 180, 0, 255, 6, 182, 0, 200, 42, 182, 0, 250, 60, 42, 18, 253, 3, 42]
abbrev dktX7_readHeard_0 : List UInt8 := dkwX7_readHeard_0 ++ dktX7_readHeard_1
theorem dksX7_readHeard_0 : cX7_readHeard.data.toList.drop 0 = dktX7_readHeard_0 := by decide +kernel
theorem dksX7_readHeard_1 : cX7_readHeard.data.toList.drop 22 = dktX7_readHeard_1 := dk_seg dksX7_readHeard_0 22 rfl rfl
theorem dksX7_readHeard_2 : cX7_readHeard.data.toList.drop 46 = dktX7_readHeard_2 := dk_seg dksX7_readHeard_1 24 rfl rfl
theorem dksX7_readHeard_3 : cX7_readHeard.data.toList.drop 70 = dktX7_readHeard_3 := dk_seg dksX7_readHeard_2 24 rfl rfl
theorem dksX7_readHeard_4 : cX7_readHeard.data.toList.drop 93 = dktX7_readHeard_4 := dk_seg dksX7_readHeard_3 23 rfl rfl
theorem dksX7_readHeard_5 : cX7_readHeard.data.toList.drop 115 = dktX7_readHeard_5 := dk_seg dksX7_readHeard_4 22 rfl rfl
theorem dX7_readHeard_0 : decode cX7_readHeard 0 = .ok (.aload_n 0, 1) := dk_42 (dk_at dksX7_readHeard_0 0 rfl rfl)
theorem dX7_readHeard_1 : decode cX7_readHeard 1 = .ok (.aload_n 0, 1) := dk_42 (dk_at dksX7_readHeard_0 1 rfl rfl)
theorem dX7_readHeard_2 : decode cX7_readHeard 2 = .ok (.getfield 148, 3) := dk_180 0 148 (dk_at dksX7_readHeard_0 2 rfl rfl)
theorem dX7_readHeard_5 : decode cX7_readHeard 5 = .ok (.getfield 255, 3) := dk_180 0 255 (dk_at dksX7_readHeard_0 5 rfl rfl)
theorem dX7_readHeard_8 : decode cX7_readHeard 8 = .ok (.iconst 3, 1) := dk_6 (dk_at dksX7_readHeard_0 8 rfl rfl)
theorem dX7_readHeard_9 : decode cX7_readHeard 9 = .ok (.invokevirtual 200, 3) := dk_182 0 200 (dk_at dksX7_readHeard_0 9 rfl rfl)
theorem dX7_readHeard_12 : decode cX7_readHeard 12 = .ok (.aload_n 0, 1) := dk_42 (dk_at dksX7_readHeard_0 12 rfl rfl)
theorem dX7_readHeard_13 : decode cX7_readHeard 13 = .ok (.invokevirtual 250, 3) := dk_182 0 250 (dk_at dksX7_readHeard_0 13 rfl rfl)
theorem dX7_readHeard_16 : decode cX7_readHeard 16 = .ok (.istore_n 1, 1) := dk_60 (dk_at dksX7_readHeard_0 16 rfl rfl)
theorem dX7_readHeard_17 : decode cX7_readHeard 17 = .ok (.aload_n 0, 1) := dk_42 (dk_at dksX7_readHeard_0 17 rfl rfl)
theorem dX7_readHeard_18 : decode cX7_readHeard 18 = .ok (.ldc 253, 2) := dk_18 253 (dk_at dksX7_readHeard_0 18 rfl rfl)
theorem dX7_readHeard_20 : decode cX7_readHeard 20 = .ok (.iconst 0, 1) := dk_3 (dk_at dksX7_readHeard_0 20 rfl rfl)
theorem dX7_readHeard_21 : decode cX7_readHeard 21 = .ok (.aload_n 0, 1) := dk_42 (dk_at dksX7_readHeard_0 21 rfl rfl)
theorem dX7_readHeard_22 : decode cX7_readHeard 22 = .ok (.getfield 148, 3) := dk_180 0 148 (dk_at dksX7_readHeard_1 0 rfl rfl)
theorem dX7_readHeard_25 : decode cX7_readHeard 25 = .ok (.getfield 152, 3) := dk_180 0 152 (dk_at dksX7_readHeard_1 3 rfl rfl)
theorem dX7_readHeard_28 : decode cX7_readHeard 28 = .ok (.invokevirtual 192, 3) := dk_182 0 192 (dk_at dksX7_readHeard_1 6 rfl rfl)
theorem dX7_readHeard_31 : decode cX7_readHeard 31 = .ok (.istore_n 2, 1) := dk_61 (dk_at dksX7_readHeard_1 9 rfl rfl)
theorem dX7_readHeard_32 : decode cX7_readHeard 32 = .ok (.aload_n 0, 1) := dk_42 (dk_at dksX7_readHeard_1 10 rfl rfl)
theorem dX7_readHeard_33 : decode cX7_readHeard 33 = .ok (.ldc_w 258, 3) := dk_19 1 2 (dk_at dksX7_readHeard_1 11 rfl rfl)
theorem dX7_readHeard_36 : decode cX7_readHeard 36 = .ok (.iconst 0, 1) := dk_3 (dk_at dksX7_readHeard_1 14 rfl rfl)
theorem dX7_readHeard_37 : decode cX7_readHeard 37 = .ok (.iconst 3, 1) := dk_6 (dk_at dksX7_readHeard_1 15 rfl rfl)
theorem dX7_readHeard_38 : decode cX7_readHeard 38 = .ok (.invokevirtual 192, 3) := dk_182 0 192 (dk_at dksX7_readHeard_1 16 rfl rfl)
theorem dX7_readHeard_41 : decode cX7_readHeard 41 = .ok (.istore_n 3, 1) := dk_62 (dk_at dksX7_readHeard_1 19 rfl rfl)
theorem dX7_readHeard_42 : decode cX7_readHeard 42 = .ok (.aload_n 0, 1) := dk_42 (dk_at dksX7_readHeard_1 20 rfl rfl)
theorem dX7_readHeard_43 : decode cX7_readHeard 43 = .ok (.getfield 83, 3) := dk_180 0 83 (dk_at dksX7_readHeard_1 21 rfl rfl)
theorem dX7_readHeard_46 : decode cX7_readHeard 46 = .ok (.iconst 5, 1) := dk_8 (dk_at dksX7_readHeard_2 0 rfl rfl)
theorem dX7_readHeard_47 : decode cX7_readHeard 47 = .ok (.if_icmp .ne 4, 3) := dk_160 0 4 (dk_at dksX7_readHeard_2 1 rfl rfl)
theorem dX7_readHeard_50 : decode cX7_readHeard 50 = .ok (.return_, 1) := dk_177 (dk_at dksX7_readHeard_2 4 rfl rfl)
theorem dX7_readHeard_51 : decode cX7_readHeard 51 = .ok (.aload_n 0, 1) := dk_42 (dk_at dksX7_readHeard_2 5 rfl rfl)
theorem dX7_readHeard_52 : decode cX7_readHeard 52 = .ok (.getfield 148, 3) := dk_180 0 148 (dk_at dksX7_readHeard_2 6 rfl rfl)
theorem dX7_readHeard_55 : decode cX7_readHeard 55 = .ok (.getfield 242, 3) := dk_180 0 242 (dk_at dksX7_readHeard_2 9 rfl rfl)
theorem dX7_readHeard_58 : decode cX7_readHeard 58 = .ok (.bipush 6, 2) := dk_16 6 (dk_at dksX7_readHeard_2 12 rfl rfl)
theorem dX7_readHeard_60 : decode cX7_readHeard 60 = .ok (.iload_n 1, 1) := dk_27 (dk_at dksX7_readHeard_2 14 rfl rfl)
theorem dX7_readHeard_61 : decode cX7_readHeard 61 = .ok (.imul, 1) := dk_104 (dk_at dksX7_readHeard_2 15 rfl rfl)
theorem dX7_readHeard_62 : decode cX7_readHeard 62 = .ok (.aload_n 0, 1) := dk_42 (dk_at dksX7_readHeard_2 16 rfl rfl)
theorem dX7_readHeard_63 : decode cX7_readHeard 63 = .ok (.getfield 239, 3) := dk_180 0 239 (dk_at dksX7_readHeard_2 17 rfl rfl)
theorem dX7_readHeard_66 : decode cX7_readHeard 66 = .ok (.iadd, 1) := dk_96 (dk_at dksX7_readHeard_2 20 rfl rfl)
theorem dX7_readHeard_67 : decode cX7_readHeard 67 = .ok (.iload_n 2, 1) := dk_28 (dk_at dksX7_readHeard_2 21 rfl rfl)
theorem dX7_readHeard_68 : decode cX7_readHeard 68 = .ok (.iastore, 1) := dk_79 (dk_at dksX7_readHeard_2 22 rfl rfl)
theorem dX7_readHeard_69 : decode cX7_readHeard 69 = .ok (.aload_n 0, 1) := dk_42 (dk_at dksX7_readHeard_2 23 rfl rfl)
theorem dX7_readHeard_70 : decode cX7_readHeard 70 = .ok (.getfield 148, 3) := dk_180 0 148 (dk_at dksX7_readHeard_3 0 rfl rfl)
theorem dX7_readHeard_73 : decode cX7_readHeard 73 = .ok (.getfield 260, 3) := dk_180 1 4 (dk_at dksX7_readHeard_3 3 rfl rfl)
theorem dX7_readHeard_76 : decode cX7_readHeard 76 = .ok (.aload_n 0, 1) := dk_42 (dk_at dksX7_readHeard_3 6 rfl rfl)
theorem dX7_readHeard_77 : decode cX7_readHeard 77 = .ok (.getfield 148, 3) := dk_180 0 148 (dk_at dksX7_readHeard_3 7 rfl rfl)
theorem dX7_readHeard_80 : decode cX7_readHeard 80 = .ok (.getfield 255, 3) := dk_180 0 255 (dk_at dksX7_readHeard_3 10 rfl rfl)
theorem dX7_readHeard_83 : decode cX7_readHeard 83 = .ok (.iload_n 1, 1) := dk_27 (dk_at dksX7_readHeard_3 13 rfl rfl)
theorem dX7_readHeard_84 : decode cX7_readHeard 84 = .ok (.iastore, 1) := dk_79 (dk_at dksX7_readHeard_3 14 rfl rfl)
theorem dX7_readHeard_85 : decode cX7_readHeard 85 = .ok (.aload_n 0, 1) := dk_42 (dk_at dksX7_readHeard_3 15 rfl rfl)
theorem dX7_readHeard_86 : decode cX7_readHeard 86 = .ok (.getfield 148, 3) := dk_180 0 148 (dk_at dksX7_readHeard_3 16 rfl rfl)
theorem dX7_readHeard_89 : decode cX7_readHeard 89 = .ok (.getfield 263, 3) := dk_180 1 7 (dk_at dksX7_readHeard_3 19 rfl rfl)
theorem dX7_readHeard_92 : decode cX7_readHeard 92 = .ok (.aload_n 0, 1) := dk_42 (dk_at dksX7_readHeard_3 22 rfl rfl)
theorem dX7_readHeard_93 : decode cX7_readHeard 93 = .ok (.getfield 148, 3) := dk_180 0 148 (dk_at dksX7_readHeard_4 0 rfl rfl)
theorem dX7_readHeard_96 : decode cX7_readHeard 96 = .ok (.getfield 255, 3) := dk_180 0 255 (dk_at dksX7_readHeard_4 3 rfl rfl)
theorem dX7_readHeard_99 : decode cX7_readHeard 99 = .ok (.aload_n 0, 1) := dk_42 (dk_at dksX7_readHeard_4 6 rfl rfl)
theorem dX7_readHeard_100 : decode cX7_readHeard 100 = .ok (.getfield 239, 3) := dk_180 0 239 (dk_at dksX7_readHeard_4 7 rfl rfl)
theorem dX7_readHeard_103 : decode cX7_readHeard 103 = .ok (.iastore, 1) := dk_79 (dk_at dksX7_readHeard_4 10 rfl rfl)
theorem dX7_readHeard_104 : decode cX7_readHeard 104 = .ok (.aload_n 0, 1) := dk_42 (dk_at dksX7_readHeard_4 11 rfl rfl)
theorem dX7_readHeard_105 : decode cX7_readHeard 105 = .ok (.getfield 148, 3) := dk_180 0 148 (dk_at dksX7_readHeard_4 12 rfl rfl)
theorem dX7_readHeard_108 : decode cX7_readHeard 108 = .ok (.getfield 266, 3) := dk_180 1 10 (dk_at dksX7_readHeard_4 15 rfl rfl)
theorem dX7_readHeard_111 : decode cX7_readHeard 111 = .ok (.aload_n 0, 1) := dk_42 (dk_at dksX7_readHeard_4 18 rfl rfl)
theorem dX7_readHeard_112 : decode cX7_readHeard 112 = .ok (.getfield 148, 3) := dk_180 0 148 (dk_at dksX7_readHeard_4 19 rfl rfl)
theorem dX7_readHeard_115 : decode cX7_readHeard 115 = .ok (.getfield 255, 3) := dk_180 0 255 (dk_at dksX7_readHeard_5 0 rfl rfl)
theorem dX7_readHeard_118 : decode cX7_readHeard 118 = .ok (.iload_n 3, 1) := dk_29 (dk_at dksX7_readHeard_5 3 rfl rfl)
theorem dX7_readHeard_119 : decode cX7_readHeard 119 = .ok (.iastore, 1) := dk_79 (dk_at dksX7_readHeard_5 4 rfl rfl)
theorem dX7_readHeard_120 : decode cX7_readHeard 120 = .ok (.aload_n 0, 1) := dk_42 (dk_at dksX7_readHeard_5 5 rfl rfl)
theorem dX7_readHeard_121 : decode cX7_readHeard 121 = .ok (.getfield 148, 3) := dk_180 0 148 (dk_at dksX7_readHeard_5 6 rfl rfl)
theorem dX7_readHeard_124 : decode cX7_readHeard 124 = .ok (.dup, 1) := dk_89 (dk_at dksX7_readHeard_5 9 rfl rfl)
theorem dX7_readHeard_125 : decode cX7_readHeard 125 = .ok (.getfield 255, 3) := dk_180 0 255 (dk_at dksX7_readHeard_5 10 rfl rfl)
theorem dX7_readHeard_128 : decode cX7_readHeard 128 = .ok (.iconst 1, 1) := dk_4 (dk_at dksX7_readHeard_5 13 rfl rfl)
theorem dX7_readHeard_129 : decode cX7_readHeard 129 = .ok (.iadd, 1) := dk_96 (dk_at dksX7_readHeard_5 14 rfl rfl)
theorem dX7_readHeard_130 : decode cX7_readHeard 130 = .ok (.putfield 255, 3) := dk_181 0 255 (dk_at dksX7_readHeard_5 15 rfl rfl)
theorem dX7_readHeard_133 : decode cX7_readHeard 133 = .ok (.return_, 1) := dk_177 (dk_at dksX7_readHeard_5 18 rfl rfl)
abbrev cX7_readWent : ByteArray := prog_14_method_33_code
def yX7_readWent : MethodName := ⟨RX7, "readWent", "()V"⟩
def dkwX7_readWent_4 : List UInt8 := [180, 1, 12, 27, 28, 79, 42, 180, 0, 148, 89, 180, 1, 14, 4, 96, 181, 1, 14, 177]
abbrev dktX7_readWent_4 : List UInt8 := dkwX7_readWent_4 ++ []
def dkwX7_readWent_3 : List UInt8 := [42, 6, 182, 0, 126, 42, 182, 0, 119, 42, 180, 0, 83, 8, 160, 0, 4, 177, 42, 180, 0, 148]
abbrev dktX7_readWent_3 : List UInt8 := dkwX7_readWent_3 ++ dktX7_readWent_4
def dkwX7_readWent_2 : List UInt8 := [182, 0, 122, 154, 0, 26, 42, 182, 0, 230, 61, 42, 180, 0, 83, 8, 159, 0, 13, 28, 27, 160, 0, 8]
abbrev dktX7_readWent_2 : List UInt8 := dkwX7_readWent_2 ++ dktX7_readWent_3
def dkwX7_readWent_1 : List UInt8 := [180, 1, 12, 27, 46, 2, 159, 0, 8, 42, 6, 182, 0, 126, 42, 182, 0, 119, 16, 254, 61, 42, 18, 146]
abbrev dktX7_readWent_1 : List UInt8 := dkwX7_readWent_1 ++ dktX7_readWent_2
def dkwX7_readWent_0 : List UInt8 := [42, 3, 4, 182, 0, 200, 42, 182, 0, 230, 60, 42, 180, 0, 83, 8, 159, 0, 21, 42, 180, 0, 148]
abbrev dktX7_readWent_0 : List UInt8 := dkwX7_readWent_0 ++ dktX7_readWent_1
theorem dksX7_readWent_0 : cX7_readWent.data.toList.drop 0 = dktX7_readWent_0 := by decide +kernel
theorem dksX7_readWent_1 : cX7_readWent.data.toList.drop 23 = dktX7_readWent_1 := dk_seg dksX7_readWent_0 23 rfl rfl
theorem dksX7_readWent_2 : cX7_readWent.data.toList.drop 47 = dktX7_readWent_2 := dk_seg dksX7_readWent_1 24 rfl rfl
theorem dksX7_readWent_3 : cX7_readWent.data.toList.drop 71 = dktX7_readWent_3 := dk_seg dksX7_readWent_2 24 rfl rfl
theorem dksX7_readWent_4 : cX7_readWent.data.toList.drop 93 = dktX7_readWent_4 := dk_seg dksX7_readWent_3 22 rfl rfl
theorem dX7_readWent_0 : decode cX7_readWent 0 = .ok (.aload_n 0, 1) := dk_42 (dk_at dksX7_readWent_0 0 rfl rfl)
theorem dX7_readWent_1 : decode cX7_readWent 1 = .ok (.iconst 0, 1) := dk_3 (dk_at dksX7_readWent_0 1 rfl rfl)
theorem dX7_readWent_2 : decode cX7_readWent 2 = .ok (.iconst 1, 1) := dk_4 (dk_at dksX7_readWent_0 2 rfl rfl)
theorem dX7_readWent_3 : decode cX7_readWent 3 = .ok (.invokevirtual 200, 3) := dk_182 0 200 (dk_at dksX7_readWent_0 3 rfl rfl)
theorem dX7_readWent_6 : decode cX7_readWent 6 = .ok (.aload_n 0, 1) := dk_42 (dk_at dksX7_readWent_0 6 rfl rfl)
theorem dX7_readWent_7 : decode cX7_readWent 7 = .ok (.invokevirtual 230, 3) := dk_182 0 230 (dk_at dksX7_readWent_0 7 rfl rfl)
theorem dX7_readWent_10 : decode cX7_readWent 10 = .ok (.istore_n 1, 1) := dk_60 (dk_at dksX7_readWent_0 10 rfl rfl)
theorem dX7_readWent_11 : decode cX7_readWent 11 = .ok (.aload_n 0, 1) := dk_42 (dk_at dksX7_readWent_0 11 rfl rfl)
theorem dX7_readWent_12 : decode cX7_readWent 12 = .ok (.getfield 83, 3) := dk_180 0 83 (dk_at dksX7_readWent_0 12 rfl rfl)
theorem dX7_readWent_15 : decode cX7_readWent 15 = .ok (.iconst 5, 1) := dk_8 (dk_at dksX7_readWent_0 15 rfl rfl)
theorem dX7_readWent_16 : decode cX7_readWent 16 = .ok (.if_icmp .eq 21, 3) := dk_159 0 21 (dk_at dksX7_readWent_0 16 rfl rfl)
theorem dX7_readWent_19 : decode cX7_readWent 19 = .ok (.aload_n 0, 1) := dk_42 (dk_at dksX7_readWent_0 19 rfl rfl)
theorem dX7_readWent_20 : decode cX7_readWent 20 = .ok (.getfield 148, 3) := dk_180 0 148 (dk_at dksX7_readWent_0 20 rfl rfl)
theorem dX7_readWent_23 : decode cX7_readWent 23 = .ok (.getfield 268, 3) := dk_180 1 12 (dk_at dksX7_readWent_1 0 rfl rfl)
theorem dX7_readWent_26 : decode cX7_readWent 26 = .ok (.iload_n 1, 1) := dk_27 (dk_at dksX7_readWent_1 3 rfl rfl)
theorem dX7_readWent_27 : decode cX7_readWent 27 = .ok (.iaload, 1) := dk_46 (dk_at dksX7_readWent_1 4 rfl rfl)
theorem dX7_readWent_28 : decode cX7_readWent 28 = .ok (.iconst (-1), 1) := dk_2 (dk_at dksX7_readWent_1 5 rfl rfl)
theorem dX7_readWent_29 : decode cX7_readWent 29 = .ok (.if_icmp .eq 8, 3) := dk_159 0 8 (dk_at dksX7_readWent_1 6 rfl rfl)
theorem dX7_readWent_32 : decode cX7_readWent 32 = .ok (.aload_n 0, 1) := dk_42 (dk_at dksX7_readWent_1 9 rfl rfl)
theorem dX7_readWent_33 : decode cX7_readWent 33 = .ok (.iconst 3, 1) := dk_6 (dk_at dksX7_readWent_1 10 rfl rfl)
theorem dX7_readWent_34 : decode cX7_readWent 34 = .ok (.invokevirtual 126, 3) := dk_182 0 126 (dk_at dksX7_readWent_1 11 rfl rfl)
theorem dX7_readWent_37 : decode cX7_readWent 37 = .ok (.aload_n 0, 1) := dk_42 (dk_at dksX7_readWent_1 14 rfl rfl)
theorem dX7_readWent_38 : decode cX7_readWent 38 = .ok (.invokevirtual 119, 3) := dk_182 0 119 (dk_at dksX7_readWent_1 15 rfl rfl)
theorem dX7_readWent_41 : decode cX7_readWent 41 = .ok (.bipush (-2), 2) := dk_16 254 (dk_at dksX7_readWent_1 18 rfl rfl)
theorem dX7_readWent_43 : decode cX7_readWent 43 = .ok (.istore_n 2, 1) := dk_61 (dk_at dksX7_readWent_1 20 rfl rfl)
theorem dX7_readWent_44 : decode cX7_readWent 44 = .ok (.aload_n 0, 1) := dk_42 (dk_at dksX7_readWent_1 21 rfl rfl)
theorem dX7_readWent_45 : decode cX7_readWent 45 = .ok (.ldc 146, 2) := dk_18 146 (dk_at dksX7_readWent_1 22 rfl rfl)
theorem dX7_readWent_47 : decode cX7_readWent 47 = .ok (.invokevirtual 122, 3) := dk_182 0 122 (dk_at dksX7_readWent_2 0 rfl rfl)
theorem dX7_readWent_50 : decode cX7_readWent 50 = .ok (.ifCond .ne 26, 3) := dk_154 0 26 (dk_at dksX7_readWent_2 3 rfl rfl)
theorem dX7_readWent_53 : decode cX7_readWent 53 = .ok (.aload_n 0, 1) := dk_42 (dk_at dksX7_readWent_2 6 rfl rfl)
theorem dX7_readWent_54 : decode cX7_readWent 54 = .ok (.invokevirtual 230, 3) := dk_182 0 230 (dk_at dksX7_readWent_2 7 rfl rfl)
theorem dX7_readWent_57 : decode cX7_readWent 57 = .ok (.istore_n 2, 1) := dk_61 (dk_at dksX7_readWent_2 10 rfl rfl)
theorem dX7_readWent_58 : decode cX7_readWent 58 = .ok (.aload_n 0, 1) := dk_42 (dk_at dksX7_readWent_2 11 rfl rfl)
theorem dX7_readWent_59 : decode cX7_readWent 59 = .ok (.getfield 83, 3) := dk_180 0 83 (dk_at dksX7_readWent_2 12 rfl rfl)
theorem dX7_readWent_62 : decode cX7_readWent 62 = .ok (.iconst 5, 1) := dk_8 (dk_at dksX7_readWent_2 15 rfl rfl)
theorem dX7_readWent_63 : decode cX7_readWent 63 = .ok (.if_icmp .eq 13, 3) := dk_159 0 13 (dk_at dksX7_readWent_2 16 rfl rfl)
theorem dX7_readWent_66 : decode cX7_readWent 66 = .ok (.iload_n 2, 1) := dk_28 (dk_at dksX7_readWent_2 19 rfl rfl)
theorem dX7_readWent_67 : decode cX7_readWent 67 = .ok (.iload_n 1, 1) := dk_27 (dk_at dksX7_readWent_2 20 rfl rfl)
theorem dX7_readWent_68 : decode cX7_readWent 68 = .ok (.if_icmp .ne 8, 3) := dk_160 0 8 (dk_at dksX7_readWent_2 21 rfl rfl)
theorem dX7_readWent_71 : decode cX7_readWent 71 = .ok (.aload_n 0, 1) := dk_42 (dk_at dksX7_readWent_3 0 rfl rfl)
theorem dX7_readWent_72 : decode cX7_readWent 72 = .ok (.iconst 3, 1) := dk_6 (dk_at dksX7_readWent_3 1 rfl rfl)
theorem dX7_readWent_73 : decode cX7_readWent 73 = .ok (.invokevirtual 126, 3) := dk_182 0 126 (dk_at dksX7_readWent_3 2 rfl rfl)
theorem dX7_readWent_76 : decode cX7_readWent 76 = .ok (.aload_n 0, 1) := dk_42 (dk_at dksX7_readWent_3 5 rfl rfl)
theorem dX7_readWent_77 : decode cX7_readWent 77 = .ok (.invokevirtual 119, 3) := dk_182 0 119 (dk_at dksX7_readWent_3 6 rfl rfl)
theorem dX7_readWent_80 : decode cX7_readWent 80 = .ok (.aload_n 0, 1) := dk_42 (dk_at dksX7_readWent_3 9 rfl rfl)
theorem dX7_readWent_81 : decode cX7_readWent 81 = .ok (.getfield 83, 3) := dk_180 0 83 (dk_at dksX7_readWent_3 10 rfl rfl)
theorem dX7_readWent_84 : decode cX7_readWent 84 = .ok (.iconst 5, 1) := dk_8 (dk_at dksX7_readWent_3 13 rfl rfl)
theorem dX7_readWent_85 : decode cX7_readWent 85 = .ok (.if_icmp .ne 4, 3) := dk_160 0 4 (dk_at dksX7_readWent_3 14 rfl rfl)
theorem dX7_readWent_88 : decode cX7_readWent 88 = .ok (.return_, 1) := dk_177 (dk_at dksX7_readWent_3 17 rfl rfl)
theorem dX7_readWent_89 : decode cX7_readWent 89 = .ok (.aload_n 0, 1) := dk_42 (dk_at dksX7_readWent_3 18 rfl rfl)
theorem dX7_readWent_90 : decode cX7_readWent 90 = .ok (.getfield 148, 3) := dk_180 0 148 (dk_at dksX7_readWent_3 19 rfl rfl)
theorem dX7_readWent_93 : decode cX7_readWent 93 = .ok (.getfield 268, 3) := dk_180 1 12 (dk_at dksX7_readWent_4 0 rfl rfl)
theorem dX7_readWent_96 : decode cX7_readWent 96 = .ok (.iload_n 1, 1) := dk_27 (dk_at dksX7_readWent_4 3 rfl rfl)
theorem dX7_readWent_97 : decode cX7_readWent 97 = .ok (.iload_n 2, 1) := dk_28 (dk_at dksX7_readWent_4 4 rfl rfl)
theorem dX7_readWent_98 : decode cX7_readWent 98 = .ok (.iastore, 1) := dk_79 (dk_at dksX7_readWent_4 5 rfl rfl)
theorem dX7_readWent_99 : decode cX7_readWent 99 = .ok (.aload_n 0, 1) := dk_42 (dk_at dksX7_readWent_4 6 rfl rfl)
theorem dX7_readWent_100 : decode cX7_readWent 100 = .ok (.getfield 148, 3) := dk_180 0 148 (dk_at dksX7_readWent_4 7 rfl rfl)
theorem dX7_readWent_103 : decode cX7_readWent 103 = .ok (.dup, 1) := dk_89 (dk_at dksX7_readWent_4 10 rfl rfl)
theorem dX7_readWent_104 : decode cX7_readWent 104 = .ok (.getfield 270, 3) := dk_180 1 14 (dk_at dksX7_readWent_4 11 rfl rfl)
theorem dX7_readWent_107 : decode cX7_readWent 107 = .ok (.iconst 1, 1) := dk_4 (dk_at dksX7_readWent_4 14 rfl rfl)
theorem dX7_readWent_108 : decode cX7_readWent 108 = .ok (.iadd, 1) := dk_96 (dk_at dksX7_readWent_4 15 rfl rfl)
theorem dX7_readWent_109 : decode cX7_readWent 109 = .ok (.putfield 270, 3) := dk_181 1 14 (dk_at dksX7_readWent_4 16 rfl rfl)
theorem dX7_readWent_112 : decode cX7_readWent 112 = .ok (.return_, 1) := dk_177 (dk_at dksX7_readWent_4 19 rfl rfl)
abbrev cX7_eatsSemicolon : ByteArray := prog_14_method_20_code
def yX7_eatsSemicolon : MethodName := ⟨RX7, "eatsSemicolon", "()Z"⟩
def dkwX7_eatsSemicolon_0 : List UInt8 := [42, 180, 0, 83, 7, 160, 0, 7, 4, 167, 0, 4, 3, 60, 27, 153, 0, 7, 42, 182, 0, 119, 27, 172]
abbrev dktX7_eatsSemicolon_0 : List UInt8 := dkwX7_eatsSemicolon_0 ++ []
theorem dksX7_eatsSemicolon_0 : cX7_eatsSemicolon.data.toList.drop 0 = dktX7_eatsSemicolon_0 := by decide +kernel
theorem dX7_eatsSemicolon_0 : decode cX7_eatsSemicolon 0 = .ok (.aload_n 0, 1) := dk_42 (dk_at dksX7_eatsSemicolon_0 0 rfl rfl)
theorem dX7_eatsSemicolon_1 : decode cX7_eatsSemicolon 1 = .ok (.getfield 83, 3) := dk_180 0 83 (dk_at dksX7_eatsSemicolon_0 1 rfl rfl)
theorem dX7_eatsSemicolon_4 : decode cX7_eatsSemicolon 4 = .ok (.iconst 4, 1) := dk_7 (dk_at dksX7_eatsSemicolon_0 4 rfl rfl)
theorem dX7_eatsSemicolon_5 : decode cX7_eatsSemicolon 5 = .ok (.if_icmp .ne 7, 3) := dk_160 0 7 (dk_at dksX7_eatsSemicolon_0 5 rfl rfl)
theorem dX7_eatsSemicolon_8 : decode cX7_eatsSemicolon 8 = .ok (.iconst 1, 1) := dk_4 (dk_at dksX7_eatsSemicolon_0 8 rfl rfl)
theorem dX7_eatsSemicolon_9 : decode cX7_eatsSemicolon 9 = .ok (.goto 4, 3) := dk_167 0 4 (dk_at dksX7_eatsSemicolon_0 9 rfl rfl)
theorem dX7_eatsSemicolon_12 : decode cX7_eatsSemicolon 12 = .ok (.iconst 0, 1) := dk_3 (dk_at dksX7_eatsSemicolon_0 12 rfl rfl)
theorem dX7_eatsSemicolon_13 : decode cX7_eatsSemicolon 13 = .ok (.istore_n 1, 1) := dk_60 (dk_at dksX7_eatsSemicolon_0 13 rfl rfl)
theorem dX7_eatsSemicolon_14 : decode cX7_eatsSemicolon 14 = .ok (.iload_n 1, 1) := dk_27 (dk_at dksX7_eatsSemicolon_0 14 rfl rfl)
theorem dX7_eatsSemicolon_15 : decode cX7_eatsSemicolon 15 = .ok (.ifCond .eq 7, 3) := dk_153 0 7 (dk_at dksX7_eatsSemicolon_0 15 rfl rfl)
theorem dX7_eatsSemicolon_18 : decode cX7_eatsSemicolon 18 = .ok (.aload_n 0, 1) := dk_42 (dk_at dksX7_eatsSemicolon_0 18 rfl rfl)
theorem dX7_eatsSemicolon_19 : decode cX7_eatsSemicolon 19 = .ok (.invokevirtual 119, 3) := dk_182 0 119 (dk_at dksX7_eatsSemicolon_0 19 rfl rfl)
theorem dX7_eatsSemicolon_22 : decode cX7_eatsSemicolon 22 = .ok (.iload_n 1, 1) := dk_27 (dk_at dksX7_eatsSemicolon_0 22 rfl rfl)
theorem dX7_eatsSemicolon_23 : decode cX7_eatsSemicolon 23 = .ok (.ireturn, 1) := dk_172 (dk_at dksX7_eatsSemicolon_0 23 rfl rfl)
abbrev cX7_asTold : ByteArray := prog_14_method_41_code
def yX7_asTold : MethodName := ⟨RX7, "asTold", "()V"⟩
def dkwX7_asTold_4 : List UInt8 := [180, 0, 170, 120, 4, 100, 79, 42, 180, 0, 21, 16, 44, 42, 180, 1, 24, 180, 0, 152, 79, 177]
abbrev dktX7_asTold_4 : List UInt8 := dkwX7_asTold_4 ++ []
def dkwX7_asTold_3 : List UInt8 := [180, 0, 242, 27, 46, 79, 132, 1, 1, 167, 255, 229, 42, 180, 0, 21, 16, 42, 4, 42, 180, 1, 24]
abbrev dktX7_asTold_3 : List UInt8 := dkwX7_asTold_3 ++ dktX7_asTold_4
def dkwX7_asTold_2 : List UInt8 := [167, 255, 232, 3, 60, 27, 16, 36, 162, 0, 27, 42, 180, 0, 21, 16, 6, 27, 96, 42, 180, 1, 24]
abbrev dktX7_asTold_2 : List UInt8 := dkwX7_asTold_2 ++ dktX7_asTold_3
def dkwX7_asTold_1 : List UInt8 := [16, 6, 162, 0, 24, 42, 180, 0, 21, 27, 42, 180, 1, 24, 180, 0, 223, 27, 46, 79, 132, 1, 1]
abbrev dktX7_asTold_1 : List UInt8 := dkwX7_asTold_1 ++ dktX7_asTold_2
def dkwX7_asTold_0 : List UInt8 := [3, 60, 27, 16, 47, 162, 0, 16, 42, 180, 0, 21, 27, 3, 79, 132, 1, 1, 167, 255, 240, 3, 60, 27]
abbrev dktX7_asTold_0 : List UInt8 := dkwX7_asTold_0 ++ dktX7_asTold_1
theorem dksX7_asTold_0 : cX7_asTold.data.toList.drop 0 = dktX7_asTold_0 := by decide +kernel
theorem dksX7_asTold_1 : cX7_asTold.data.toList.drop 24 = dktX7_asTold_1 := dk_seg dksX7_asTold_0 24 rfl rfl
theorem dksX7_asTold_2 : cX7_asTold.data.toList.drop 47 = dktX7_asTold_2 := dk_seg dksX7_asTold_1 23 rfl rfl
theorem dksX7_asTold_3 : cX7_asTold.data.toList.drop 70 = dktX7_asTold_3 := dk_seg dksX7_asTold_2 23 rfl rfl
theorem dksX7_asTold_4 : cX7_asTold.data.toList.drop 93 = dktX7_asTold_4 := dk_seg dksX7_asTold_3 23 rfl rfl
theorem dX7_asTold_0 : decode cX7_asTold 0 = .ok (.iconst 0, 1) := dk_3 (dk_at dksX7_asTold_0 0 rfl rfl)
theorem dX7_asTold_1 : decode cX7_asTold 1 = .ok (.istore_n 1, 1) := dk_60 (dk_at dksX7_asTold_0 1 rfl rfl)
theorem dX7_asTold_2 : decode cX7_asTold 2 = .ok (.iload_n 1, 1) := dk_27 (dk_at dksX7_asTold_0 2 rfl rfl)
theorem dX7_asTold_3 : decode cX7_asTold 3 = .ok (.bipush 47, 2) := dk_16 47 (dk_at dksX7_asTold_0 3 rfl rfl)
theorem dX7_asTold_5 : decode cX7_asTold 5 = .ok (.if_icmp .ge 16, 3) := dk_162 0 16 (dk_at dksX7_asTold_0 5 rfl rfl)
theorem dX7_asTold_8 : decode cX7_asTold 8 = .ok (.aload_n 0, 1) := dk_42 (dk_at dksX7_asTold_0 8 rfl rfl)
theorem dX7_asTold_9 : decode cX7_asTold 9 = .ok (.getfield 21, 3) := dk_180 0 21 (dk_at dksX7_asTold_0 9 rfl rfl)
theorem dX7_asTold_12 : decode cX7_asTold 12 = .ok (.iload_n 1, 1) := dk_27 (dk_at dksX7_asTold_0 12 rfl rfl)
theorem dX7_asTold_13 : decode cX7_asTold 13 = .ok (.iconst 0, 1) := dk_3 (dk_at dksX7_asTold_0 13 rfl rfl)
theorem dX7_asTold_14 : decode cX7_asTold 14 = .ok (.iastore, 1) := dk_79 (dk_at dksX7_asTold_0 14 rfl rfl)
theorem dX7_asTold_15 : decode cX7_asTold 15 = .ok (.iinc 1 1, 3) := dk_132 1 1 (dk_at dksX7_asTold_0 15 rfl rfl)
theorem dX7_asTold_18 : decode cX7_asTold 18 = .ok (.goto (-16), 3) := dk_167 255 240 (dk_at dksX7_asTold_0 18 rfl rfl)
theorem dX7_asTold_21 : decode cX7_asTold 21 = .ok (.iconst 0, 1) := dk_3 (dk_at dksX7_asTold_0 21 rfl rfl)
theorem dX7_asTold_22 : decode cX7_asTold 22 = .ok (.istore_n 1, 1) := dk_60 (dk_at dksX7_asTold_0 22 rfl rfl)
theorem dX7_asTold_23 : decode cX7_asTold 23 = .ok (.iload_n 1, 1) := dk_27 (dk_at dksX7_asTold_0 23 rfl rfl)
theorem dX7_asTold_24 : decode cX7_asTold 24 = .ok (.bipush 6, 2) := dk_16 6 (dk_at dksX7_asTold_1 0 rfl rfl)
theorem dX7_asTold_26 : decode cX7_asTold 26 = .ok (.if_icmp .ge 24, 3) := dk_162 0 24 (dk_at dksX7_asTold_1 2 rfl rfl)
theorem dX7_asTold_29 : decode cX7_asTold 29 = .ok (.aload_n 0, 1) := dk_42 (dk_at dksX7_asTold_1 5 rfl rfl)
theorem dX7_asTold_30 : decode cX7_asTold 30 = .ok (.getfield 21, 3) := dk_180 0 21 (dk_at dksX7_asTold_1 6 rfl rfl)
theorem dX7_asTold_33 : decode cX7_asTold 33 = .ok (.iload_n 1, 1) := dk_27 (dk_at dksX7_asTold_1 9 rfl rfl)
theorem dX7_asTold_34 : decode cX7_asTold 34 = .ok (.aload_n 0, 1) := dk_42 (dk_at dksX7_asTold_1 10 rfl rfl)
theorem dX7_asTold_35 : decode cX7_asTold 35 = .ok (.getfield 280, 3) := dk_180 1 24 (dk_at dksX7_asTold_1 11 rfl rfl)
theorem dX7_asTold_38 : decode cX7_asTold 38 = .ok (.getfield 223, 3) := dk_180 0 223 (dk_at dksX7_asTold_1 14 rfl rfl)
theorem dX7_asTold_41 : decode cX7_asTold 41 = .ok (.iload_n 1, 1) := dk_27 (dk_at dksX7_asTold_1 17 rfl rfl)
theorem dX7_asTold_42 : decode cX7_asTold 42 = .ok (.iaload, 1) := dk_46 (dk_at dksX7_asTold_1 18 rfl rfl)
theorem dX7_asTold_43 : decode cX7_asTold 43 = .ok (.iastore, 1) := dk_79 (dk_at dksX7_asTold_1 19 rfl rfl)
theorem dX7_asTold_44 : decode cX7_asTold 44 = .ok (.iinc 1 1, 3) := dk_132 1 1 (dk_at dksX7_asTold_1 20 rfl rfl)
theorem dX7_asTold_47 : decode cX7_asTold 47 = .ok (.goto (-24), 3) := dk_167 255 232 (dk_at dksX7_asTold_2 0 rfl rfl)
theorem dX7_asTold_50 : decode cX7_asTold 50 = .ok (.iconst 0, 1) := dk_3 (dk_at dksX7_asTold_2 3 rfl rfl)
theorem dX7_asTold_51 : decode cX7_asTold 51 = .ok (.istore_n 1, 1) := dk_60 (dk_at dksX7_asTold_2 4 rfl rfl)
theorem dX7_asTold_52 : decode cX7_asTold 52 = .ok (.iload_n 1, 1) := dk_27 (dk_at dksX7_asTold_2 5 rfl rfl)
theorem dX7_asTold_53 : decode cX7_asTold 53 = .ok (.bipush 36, 2) := dk_16 36 (dk_at dksX7_asTold_2 6 rfl rfl)
theorem dX7_asTold_55 : decode cX7_asTold 55 = .ok (.if_icmp .ge 27, 3) := dk_162 0 27 (dk_at dksX7_asTold_2 8 rfl rfl)
theorem dX7_asTold_58 : decode cX7_asTold 58 = .ok (.aload_n 0, 1) := dk_42 (dk_at dksX7_asTold_2 11 rfl rfl)
theorem dX7_asTold_59 : decode cX7_asTold 59 = .ok (.getfield 21, 3) := dk_180 0 21 (dk_at dksX7_asTold_2 12 rfl rfl)
theorem dX7_asTold_62 : decode cX7_asTold 62 = .ok (.bipush 6, 2) := dk_16 6 (dk_at dksX7_asTold_2 15 rfl rfl)
theorem dX7_asTold_64 : decode cX7_asTold 64 = .ok (.iload_n 1, 1) := dk_27 (dk_at dksX7_asTold_2 17 rfl rfl)
theorem dX7_asTold_65 : decode cX7_asTold 65 = .ok (.iadd, 1) := dk_96 (dk_at dksX7_asTold_2 18 rfl rfl)
theorem dX7_asTold_66 : decode cX7_asTold 66 = .ok (.aload_n 0, 1) := dk_42 (dk_at dksX7_asTold_2 19 rfl rfl)
theorem dX7_asTold_67 : decode cX7_asTold 67 = .ok (.getfield 280, 3) := dk_180 1 24 (dk_at dksX7_asTold_2 20 rfl rfl)
theorem dX7_asTold_70 : decode cX7_asTold 70 = .ok (.getfield 242, 3) := dk_180 0 242 (dk_at dksX7_asTold_3 0 rfl rfl)
theorem dX7_asTold_73 : decode cX7_asTold 73 = .ok (.iload_n 1, 1) := dk_27 (dk_at dksX7_asTold_3 3 rfl rfl)
theorem dX7_asTold_74 : decode cX7_asTold 74 = .ok (.iaload, 1) := dk_46 (dk_at dksX7_asTold_3 4 rfl rfl)
theorem dX7_asTold_75 : decode cX7_asTold 75 = .ok (.iastore, 1) := dk_79 (dk_at dksX7_asTold_3 5 rfl rfl)
theorem dX7_asTold_76 : decode cX7_asTold 76 = .ok (.iinc 1 1, 3) := dk_132 1 1 (dk_at dksX7_asTold_3 6 rfl rfl)
theorem dX7_asTold_79 : decode cX7_asTold 79 = .ok (.goto (-27), 3) := dk_167 255 229 (dk_at dksX7_asTold_3 9 rfl rfl)
theorem dX7_asTold_82 : decode cX7_asTold 82 = .ok (.aload_n 0, 1) := dk_42 (dk_at dksX7_asTold_3 12 rfl rfl)
theorem dX7_asTold_83 : decode cX7_asTold 83 = .ok (.getfield 21, 3) := dk_180 0 21 (dk_at dksX7_asTold_3 13 rfl rfl)
theorem dX7_asTold_86 : decode cX7_asTold 86 = .ok (.bipush 42, 2) := dk_16 42 (dk_at dksX7_asTold_3 16 rfl rfl)
theorem dX7_asTold_88 : decode cX7_asTold 88 = .ok (.iconst 1, 1) := dk_4 (dk_at dksX7_asTold_3 18 rfl rfl)
theorem dX7_asTold_89 : decode cX7_asTold 89 = .ok (.aload_n 0, 1) := dk_42 (dk_at dksX7_asTold_3 19 rfl rfl)
theorem dX7_asTold_90 : decode cX7_asTold 90 = .ok (.getfield 280, 3) := dk_180 1 24 (dk_at dksX7_asTold_3 20 rfl rfl)
theorem dX7_asTold_93 : decode cX7_asTold 93 = .ok (.getfield 170, 3) := dk_180 0 170 (dk_at dksX7_asTold_4 0 rfl rfl)
theorem dX7_asTold_96 : decode cX7_asTold 96 = .ok (.ishl, 1) := dk_120 (dk_at dksX7_asTold_4 3 rfl rfl)
theorem dX7_asTold_97 : decode cX7_asTold 97 = .ok (.iconst 1, 1) := dk_4 (dk_at dksX7_asTold_4 4 rfl rfl)
theorem dX7_asTold_98 : decode cX7_asTold 98 = .ok (.isub, 1) := dk_100 (dk_at dksX7_asTold_4 5 rfl rfl)
theorem dX7_asTold_99 : decode cX7_asTold 99 = .ok (.iastore, 1) := dk_79 (dk_at dksX7_asTold_4 6 rfl rfl)
theorem dX7_asTold_100 : decode cX7_asTold 100 = .ok (.aload_n 0, 1) := dk_42 (dk_at dksX7_asTold_4 7 rfl rfl)
theorem dX7_asTold_101 : decode cX7_asTold 101 = .ok (.getfield 21, 3) := dk_180 0 21 (dk_at dksX7_asTold_4 8 rfl rfl)
theorem dX7_asTold_104 : decode cX7_asTold 104 = .ok (.bipush 44, 2) := dk_16 44 (dk_at dksX7_asTold_4 11 rfl rfl)
theorem dX7_asTold_106 : decode cX7_asTold 106 = .ok (.aload_n 0, 1) := dk_42 (dk_at dksX7_asTold_4 13 rfl rfl)
theorem dX7_asTold_107 : decode cX7_asTold 107 = .ok (.getfield 280, 3) := dk_180 1 24 (dk_at dksX7_asTold_4 14 rfl rfl)
theorem dX7_asTold_110 : decode cX7_asTold 110 = .ok (.getfield 152, 3) := dk_180 0 152 (dk_at dksX7_asTold_4 17 rfl rfl)
theorem dX7_asTold_113 : decode cX7_asTold 113 = .ok (.iastore, 1) := dk_79 (dk_at dksX7_asTold_4 20 rfl rfl)
theorem dX7_asTold_114 : decode cX7_asTold 114 = .ok (.return_, 1) := dk_177 (dk_at dksX7_asTold_4 21 rfl rfl)
abbrev cX7_good : ByteArray := prog_14_method_6_code
def yX7_good : MethodName := ⟨RX7, "good", "(I)I"⟩
def dkwX7_good_0 : List UInt8 := [42, 3, 181, 0, 54, 42, 2, 181, 0, 9, 27, 172]
abbrev dktX7_good_0 : List UInt8 := dkwX7_good_0 ++ []
theorem dksX7_good_0 : cX7_good.data.toList.drop 0 = dktX7_good_0 := by decide +kernel
theorem dX7_good_0 : decode cX7_good 0 = .ok (.aload_n 0, 1) := dk_42 (dk_at dksX7_good_0 0 rfl rfl)
theorem dX7_good_1 : decode cX7_good 1 = .ok (.iconst 0, 1) := dk_3 (dk_at dksX7_good_0 1 rfl rfl)
theorem dX7_good_2 : decode cX7_good 2 = .ok (.putfield 54, 3) := dk_181 0 54 (dk_at dksX7_good_0 2 rfl rfl)
theorem dX7_good_5 : decode cX7_good 5 = .ok (.aload_n 0, 1) := dk_42 (dk_at dksX7_good_0 5 rfl rfl)
theorem dX7_good_6 : decode cX7_good 6 = .ok (.iconst (-1), 1) := dk_2 (dk_at dksX7_good_0 6 rfl rfl)
theorem dX7_good_7 : decode cX7_good 7 = .ok (.putfield 9, 3) := dk_181 0 9 (dk_at dksX7_good_0 7 rfl rfl)
theorem dX7_good_10 : decode cX7_good 10 = .ok (.iload_n 1, 1) := dk_27 (dk_at dksX7_good_0 10 rfl rfl)
theorem dX7_good_11 : decode cX7_good 11 = .ok (.ireturn, 1) := dk_172 (dk_at dksX7_good_0 11 rfl rfl)
abbrev cX7_fault : ByteArray := prog_14_method_36_code
def yX7_fault : MethodName := ⟨RX7, "fault", "()I"⟩
def dkwX7_fault_0 : List UInt8 := [42, 3, 181, 0, 51, 42, 180, 0, 109, 172]
abbrev dktX7_fault_0 : List UInt8 := dkwX7_fault_0 ++ []
theorem dksX7_fault_0 : cX7_fault.data.toList.drop 0 = dktX7_fault_0 := by decide +kernel
theorem dX7_fault_0 : decode cX7_fault 0 = .ok (.aload_n 0, 1) := dk_42 (dk_at dksX7_fault_0 0 rfl rfl)
theorem dX7_fault_1 : decode cX7_fault 1 = .ok (.iconst 0, 1) := dk_3 (dk_at dksX7_fault_0 1 rfl rfl)
theorem dX7_fault_2 : decode cX7_fault 2 = .ok (.putfield 51, 3) := dk_181 0 51 (dk_at dksX7_fault_0 2 rfl rfl)
theorem dX7_fault_5 : decode cX7_fault 5 = .ok (.aload_n 0, 1) := dk_42 (dk_at dksX7_fault_0 5 rfl rfl)
theorem dX7_fault_6 : decode cX7_fault 6 = .ok (.getfield 109, 3) := dk_180 0 109 (dk_at dksX7_fault_0 6 rfl rfl)
theorem dX7_fault_9 : decode cX7_fault 9 = .ok (.ireturn, 1) := dk_172 (dk_at dksX7_fault_0 9 rfl rfl)
abbrev cX7_where : ByteArray := prog_14_method_37_code
def yX7_where : MethodName := ⟨RX7, "where", "()I"⟩
def dkwX7_where_0 : List UInt8 := [42, 3, 181, 0, 51, 42, 180, 0, 9, 172]
abbrev dktX7_where_0 : List UInt8 := dkwX7_where_0 ++ []
theorem dksX7_where_0 : cX7_where.data.toList.drop 0 = dktX7_where_0 := by decide +kernel
theorem dX7_where_0 : decode cX7_where 0 = .ok (.aload_n 0, 1) := dk_42 (dk_at dksX7_where_0 0 rfl rfl)
theorem dX7_where_1 : decode cX7_where 1 = .ok (.iconst 0, 1) := dk_3 (dk_at dksX7_where_0 1 rfl rfl)
theorem dX7_where_2 : decode cX7_where 2 = .ok (.putfield 51, 3) := dk_181 0 51 (dk_at dksX7_where_0 2 rfl rfl)
theorem dX7_where_5 : decode cX7_where 5 = .ok (.aload_n 0, 1) := dk_42 (dk_at dksX7_where_0 5 rfl rfl)
theorem dX7_where_6 : decode cX7_where 6 = .ok (.getfield 9, 3) := dk_180 0 9 (dk_at dksX7_where_0 6 rfl rfl)
theorem dX7_where_9 : decode cX7_where 9 = .ok (.ireturn, 1) := dk_172 (dk_at dksX7_where_0 9 rfl rfl)
abbrev cX7_person : ByteArray := prog_14_method_53_code
def yX7_person : MethodName := ⟨RX7, "person", "(II)I"⟩
def dkwX7_person_6 : List UInt8 := [182, 0, 61, 172, 42, 42, 27, 182, 1, 67, 182, 0, 61, 172]
abbrev dktX7_person_6 : List UInt8 := dkwX7_person_6 ++ []
def dkwX7_person_5 : List UInt8 := [122, 4, 126, 182, 0, 61, 172, 42, 42, 27, 182, 1, 65, 182, 0, 61, 172, 42, 42, 27, 182, 1, 62]
abbrev dktX7_person_5 : List UInt8 := dkwX7_person_5 ++ dktX7_person_6
def dkwX7_person_4 : List UInt8 := [172, 42, 42, 180, 1, 24, 180, 0, 225, 27, 46, 182, 0, 61, 172, 42, 42, 180, 0, 17, 16, 42, 46, 27]
abbrev dktX7_person_4 : List UInt8 := dkwX7_person_4 ++ dktX7_person_5
def dkwX7_person_3 : List UInt8 := [42, 42, 180, 1, 24, 180, 0, 220, 27, 46, 182, 0, 61, 172, 42, 42, 180, 0, 17, 27, 46, 182, 0, 61]
abbrev dktX7_person_3 : List UInt8 := dkwX7_person_3 ++ dktX7_person_4
def dkwX7_person_2 : List UInt8 := [170, 0, 0, 0, 0, 113, 0, 0, 0, 0, 0, 0, 0, 5, 0, 0, 0, 38, 0, 0, 0, 52, 0, 0, 0, 63, 0, 0, 0, 77, 0, 0, 0, 93, 0, 0, 0, 103]
abbrev dktX7_person_2 : List UInt8 := dkwX7_person_2 ++ dktX7_person_3
def dkwX7_person_1 : List UInt8 := [4, 182, 0, 57, 172, 28]
abbrev dktX7_person_1 : List UInt8 := dkwX7_person_1 ++ dktX7_person_2
def dkwX7_person_0 : List UInt8 := [42, 3, 181, 0, 51, 42, 27, 182, 1, 35, 153, 0, 13, 28, 3, 16, 6, 184, 0, 130, 154, 0, 9, 42]
abbrev dktX7_person_0 : List UInt8 := dkwX7_person_0 ++ dktX7_person_1
theorem dksX7_person_0 : cX7_person.data.toList.drop 0 = dktX7_person_0 := by decide +kernel
theorem dksX7_person_1 : cX7_person.data.toList.drop 24 = dktX7_person_1 := dk_seg dksX7_person_0 24 rfl rfl
theorem dksX7_person_2 : cX7_person.data.toList.drop 30 = dktX7_person_2 := dk_seg dksX7_person_1 6 rfl rfl
theorem dksX7_person_3 : cX7_person.data.toList.drop 68 = dktX7_person_3 := dk_seg dksX7_person_2 38 rfl rfl
theorem dksX7_person_4 : cX7_person.data.toList.drop 92 = dktX7_person_4 := dk_seg dksX7_person_3 24 rfl rfl
theorem dksX7_person_5 : cX7_person.data.toList.drop 116 = dktX7_person_5 := dk_seg dksX7_person_4 24 rfl rfl
theorem dksX7_person_6 : cX7_person.data.toList.drop 139 = dktX7_person_6 := dk_seg dksX7_person_5 23 rfl rfl
theorem dX7_person_0 : decode cX7_person 0 = .ok (.aload_n 0, 1) := dk_42 (dk_at dksX7_person_0 0 rfl rfl)
theorem dX7_person_1 : decode cX7_person 1 = .ok (.iconst 0, 1) := dk_3 (dk_at dksX7_person_0 1 rfl rfl)
theorem dX7_person_2 : decode cX7_person 2 = .ok (.putfield 51, 3) := dk_181 0 51 (dk_at dksX7_person_0 2 rfl rfl)
theorem dX7_person_5 : decode cX7_person 5 = .ok (.aload_n 0, 1) := dk_42 (dk_at dksX7_person_0 5 rfl rfl)
theorem dX7_person_6 : decode cX7_person 6 = .ok (.iload_n 1, 1) := dk_27 (dk_at dksX7_person_0 6 rfl rfl)
theorem dX7_person_7 : decode cX7_person 7 = .ok (.invokevirtual 291, 3) := dk_182 1 35 (dk_at dksX7_person_0 7 rfl rfl)
theorem dX7_person_10 : decode cX7_person 10 = .ok (.ifCond .eq 13, 3) := dk_153 0 13 (dk_at dksX7_person_0 10 rfl rfl)
theorem dX7_person_13 : decode cX7_person 13 = .ok (.iload_n 2, 1) := dk_28 (dk_at dksX7_person_0 13 rfl rfl)
theorem dX7_person_14 : decode cX7_person 14 = .ok (.iconst 0, 1) := dk_3 (dk_at dksX7_person_0 14 rfl rfl)
theorem dX7_person_15 : decode cX7_person 15 = .ok (.bipush 6, 2) := dk_16 6 (dk_at dksX7_person_0 15 rfl rfl)
theorem dX7_person_17 : decode cX7_person 17 = .ok (.invokestatic 130, 3) := dk_184 0 130 (dk_at dksX7_person_0 17 rfl rfl)
theorem dX7_person_20 : decode cX7_person 20 = .ok (.ifCond .ne 9, 3) := dk_154 0 9 (dk_at dksX7_person_0 20 rfl rfl)
theorem dX7_person_23 : decode cX7_person 23 = .ok (.aload_n 0, 1) := dk_42 (dk_at dksX7_person_0 23 rfl rfl)
theorem dX7_person_24 : decode cX7_person 24 = .ok (.iconst 1, 1) := dk_4 (dk_at dksX7_person_1 0 rfl rfl)
theorem dX7_person_25 : decode cX7_person 25 = .ok (.invokevirtual 57, 3) := dk_182 0 57 (dk_at dksX7_person_1 1 rfl rfl)
theorem dX7_person_28 : decode cX7_person 28 = .ok (.ireturn, 1) := dk_172 (dk_at dksX7_person_1 4 rfl rfl)
theorem dX7_person_29 : decode cX7_person 29 = .ok (.iload_n 2, 1) := dk_28 (dk_at dksX7_person_1 5 rfl rfl)
theorem dX7_person_30 : decode cX7_person 30 = .ok (.tableswitch 113 0 5 #[38, 52, 63, 77, 93, 103], 38) := by decide +kernel
theorem dX7_person_68 : decode cX7_person 68 = .ok (.aload_n 0, 1) := dk_42 (dk_at dksX7_person_3 0 rfl rfl)
theorem dX7_person_69 : decode cX7_person 69 = .ok (.aload_n 0, 1) := dk_42 (dk_at dksX7_person_3 1 rfl rfl)
theorem dX7_person_70 : decode cX7_person 70 = .ok (.getfield 280, 3) := dk_180 1 24 (dk_at dksX7_person_3 2 rfl rfl)
theorem dX7_person_73 : decode cX7_person 73 = .ok (.getfield 220, 3) := dk_180 0 220 (dk_at dksX7_person_3 5 rfl rfl)
theorem dX7_person_76 : decode cX7_person 76 = .ok (.iload_n 1, 1) := dk_27 (dk_at dksX7_person_3 8 rfl rfl)
theorem dX7_person_77 : decode cX7_person 77 = .ok (.iaload, 1) := dk_46 (dk_at dksX7_person_3 9 rfl rfl)
theorem dX7_person_78 : decode cX7_person 78 = .ok (.invokevirtual 61, 3) := dk_182 0 61 (dk_at dksX7_person_3 10 rfl rfl)
theorem dX7_person_81 : decode cX7_person 81 = .ok (.ireturn, 1) := dk_172 (dk_at dksX7_person_3 13 rfl rfl)
theorem dX7_person_82 : decode cX7_person 82 = .ok (.aload_n 0, 1) := dk_42 (dk_at dksX7_person_3 14 rfl rfl)
theorem dX7_person_83 : decode cX7_person 83 = .ok (.aload_n 0, 1) := dk_42 (dk_at dksX7_person_3 15 rfl rfl)
theorem dX7_person_84 : decode cX7_person 84 = .ok (.getfield 17, 3) := dk_180 0 17 (dk_at dksX7_person_3 16 rfl rfl)
theorem dX7_person_87 : decode cX7_person 87 = .ok (.iload_n 1, 1) := dk_27 (dk_at dksX7_person_3 19 rfl rfl)
theorem dX7_person_88 : decode cX7_person 88 = .ok (.iaload, 1) := dk_46 (dk_at dksX7_person_3 20 rfl rfl)
theorem dX7_person_89 : decode cX7_person 89 = .ok (.invokevirtual 61, 3) := dk_182 0 61 (dk_at dksX7_person_3 21 rfl rfl)
theorem dX7_person_92 : decode cX7_person 92 = .ok (.ireturn, 1) := dk_172 (dk_at dksX7_person_4 0 rfl rfl)
theorem dX7_person_93 : decode cX7_person 93 = .ok (.aload_n 0, 1) := dk_42 (dk_at dksX7_person_4 1 rfl rfl)
theorem dX7_person_94 : decode cX7_person 94 = .ok (.aload_n 0, 1) := dk_42 (dk_at dksX7_person_4 2 rfl rfl)
theorem dX7_person_95 : decode cX7_person 95 = .ok (.getfield 280, 3) := dk_180 1 24 (dk_at dksX7_person_4 3 rfl rfl)
theorem dX7_person_98 : decode cX7_person 98 = .ok (.getfield 225, 3) := dk_180 0 225 (dk_at dksX7_person_4 6 rfl rfl)
theorem dX7_person_101 : decode cX7_person 101 = .ok (.iload_n 1, 1) := dk_27 (dk_at dksX7_person_4 9 rfl rfl)
theorem dX7_person_102 : decode cX7_person 102 = .ok (.iaload, 1) := dk_46 (dk_at dksX7_person_4 10 rfl rfl)
theorem dX7_person_103 : decode cX7_person 103 = .ok (.invokevirtual 61, 3) := dk_182 0 61 (dk_at dksX7_person_4 11 rfl rfl)
theorem dX7_person_106 : decode cX7_person 106 = .ok (.ireturn, 1) := dk_172 (dk_at dksX7_person_4 14 rfl rfl)
theorem dX7_person_107 : decode cX7_person 107 = .ok (.aload_n 0, 1) := dk_42 (dk_at dksX7_person_4 15 rfl rfl)
theorem dX7_person_108 : decode cX7_person 108 = .ok (.aload_n 0, 1) := dk_42 (dk_at dksX7_person_4 16 rfl rfl)
theorem dX7_person_109 : decode cX7_person 109 = .ok (.getfield 17, 3) := dk_180 0 17 (dk_at dksX7_person_4 17 rfl rfl)
theorem dX7_person_112 : decode cX7_person 112 = .ok (.bipush 42, 2) := dk_16 42 (dk_at dksX7_person_4 20 rfl rfl)
theorem dX7_person_114 : decode cX7_person 114 = .ok (.iaload, 1) := dk_46 (dk_at dksX7_person_4 22 rfl rfl)
theorem dX7_person_115 : decode cX7_person 115 = .ok (.iload_n 1, 1) := dk_27 (dk_at dksX7_person_4 23 rfl rfl)
theorem dX7_person_116 : decode cX7_person 116 = .ok (.ishr, 1) := dk_122 (dk_at dksX7_person_5 0 rfl rfl)
theorem dX7_person_117 : decode cX7_person 117 = .ok (.iconst 1, 1) := dk_4 (dk_at dksX7_person_5 1 rfl rfl)
theorem dX7_person_118 : decode cX7_person 118 = .ok (.iand, 1) := dk_126 (dk_at dksX7_person_5 2 rfl rfl)
theorem dX7_person_119 : decode cX7_person 119 = .ok (.invokevirtual 61, 3) := dk_182 0 61 (dk_at dksX7_person_5 3 rfl rfl)
theorem dX7_person_122 : decode cX7_person 122 = .ok (.ireturn, 1) := dk_172 (dk_at dksX7_person_5 6 rfl rfl)
theorem dX7_person_123 : decode cX7_person 123 = .ok (.aload_n 0, 1) := dk_42 (dk_at dksX7_person_5 7 rfl rfl)
theorem dX7_person_124 : decode cX7_person 124 = .ok (.aload_n 0, 1) := dk_42 (dk_at dksX7_person_5 8 rfl rfl)
theorem dX7_person_125 : decode cX7_person 125 = .ok (.iload_n 1, 1) := dk_27 (dk_at dksX7_person_5 9 rfl rfl)
theorem dX7_person_126 : decode cX7_person 126 = .ok (.invokevirtual 321, 3) := dk_182 1 65 (dk_at dksX7_person_5 10 rfl rfl)
theorem dX7_person_129 : decode cX7_person 129 = .ok (.invokevirtual 61, 3) := dk_182 0 61 (dk_at dksX7_person_5 13 rfl rfl)
theorem dX7_person_132 : decode cX7_person 132 = .ok (.ireturn, 1) := dk_172 (dk_at dksX7_person_5 16 rfl rfl)
theorem dX7_person_133 : decode cX7_person 133 = .ok (.aload_n 0, 1) := dk_42 (dk_at dksX7_person_5 17 rfl rfl)
theorem dX7_person_134 : decode cX7_person 134 = .ok (.aload_n 0, 1) := dk_42 (dk_at dksX7_person_5 18 rfl rfl)
theorem dX7_person_135 : decode cX7_person 135 = .ok (.iload_n 1, 1) := dk_27 (dk_at dksX7_person_5 19 rfl rfl)
theorem dX7_person_136 : decode cX7_person 136 = .ok (.invokevirtual 318, 3) := dk_182 1 62 (dk_at dksX7_person_5 20 rfl rfl)
theorem dX7_person_139 : decode cX7_person 139 = .ok (.invokevirtual 61, 3) := dk_182 0 61 (dk_at dksX7_person_6 0 rfl rfl)
theorem dX7_person_142 : decode cX7_person 142 = .ok (.ireturn, 1) := dk_172 (dk_at dksX7_person_6 3 rfl rfl)
theorem dX7_person_143 : decode cX7_person 143 = .ok (.aload_n 0, 1) := dk_42 (dk_at dksX7_person_6 4 rfl rfl)
theorem dX7_person_144 : decode cX7_person 144 = .ok (.aload_n 0, 1) := dk_42 (dk_at dksX7_person_6 5 rfl rfl)
theorem dX7_person_145 : decode cX7_person 145 = .ok (.iload_n 1, 1) := dk_27 (dk_at dksX7_person_6 6 rfl rfl)
theorem dX7_person_146 : decode cX7_person 146 = .ok (.invokevirtual 323, 3) := dk_182 1 67 (dk_at dksX7_person_6 7 rfl rfl)
theorem dX7_person_149 : decode cX7_person 149 = .ok (.invokevirtual 61, 3) := dk_182 0 61 (dk_at dksX7_person_6 10 rfl rfl)
theorem dX7_person_152 : decode cX7_person 152 = .ok (.ireturn, 1) := dk_172 (dk_at dksX7_person_6 13 rfl rfl)
abbrev cX7_isPerson : ByteArray := prog_14_method_38_code
def yX7_isPerson : MethodName := ⟨RX7, "isPerson", "(I)Z"⟩
def dkwX7_isPerson_1 : List UInt8 := [167, 0, 4, 3, 172]
abbrev dktX7_isPerson_1 : List UInt8 := dkwX7_isPerson_1 ++ []
def dkwX7_isPerson_0 : List UInt8 := [42, 180, 1, 24, 198, 0, 22, 27, 155, 0, 18, 27, 42, 180, 1, 24, 180, 0, 170, 162, 0, 7, 4]
abbrev dktX7_isPerson_0 : List UInt8 := dkwX7_isPerson_0 ++ dktX7_isPerson_1
theorem dksX7_isPerson_0 : cX7_isPerson.data.toList.drop 0 = dktX7_isPerson_0 := by decide +kernel
theorem dksX7_isPerson_1 : cX7_isPerson.data.toList.drop 23 = dktX7_isPerson_1 := dk_seg dksX7_isPerson_0 23 rfl rfl
theorem dX7_isPerson_0 : decode cX7_isPerson 0 = .ok (.aload_n 0, 1) := dk_42 (dk_at dksX7_isPerson_0 0 rfl rfl)
theorem dX7_isPerson_1 : decode cX7_isPerson 1 = .ok (.getfield 280, 3) := dk_180 1 24 (dk_at dksX7_isPerson_0 1 rfl rfl)
theorem dX7_isPerson_4 : decode cX7_isPerson 4 = .ok (.ifnull 22, 3) := dk_198 0 22 (dk_at dksX7_isPerson_0 4 rfl rfl)
theorem dX7_isPerson_7 : decode cX7_isPerson 7 = .ok (.iload_n 1, 1) := dk_27 (dk_at dksX7_isPerson_0 7 rfl rfl)
theorem dX7_isPerson_8 : decode cX7_isPerson 8 = .ok (.ifCond .lt 18, 3) := dk_155 0 18 (dk_at dksX7_isPerson_0 8 rfl rfl)
theorem dX7_isPerson_11 : decode cX7_isPerson 11 = .ok (.iload_n 1, 1) := dk_27 (dk_at dksX7_isPerson_0 11 rfl rfl)
theorem dX7_isPerson_12 : decode cX7_isPerson 12 = .ok (.aload_n 0, 1) := dk_42 (dk_at dksX7_isPerson_0 12 rfl rfl)
theorem dX7_isPerson_13 : decode cX7_isPerson 13 = .ok (.getfield 280, 3) := dk_180 1 24 (dk_at dksX7_isPerson_0 13 rfl rfl)
theorem dX7_isPerson_16 : decode cX7_isPerson 16 = .ok (.getfield 170, 3) := dk_180 0 170 (dk_at dksX7_isPerson_0 16 rfl rfl)
theorem dX7_isPerson_19 : decode cX7_isPerson 19 = .ok (.if_icmp .ge 7, 3) := dk_162 0 7 (dk_at dksX7_isPerson_0 19 rfl rfl)
theorem dX7_isPerson_22 : decode cX7_isPerson 22 = .ok (.iconst 1, 1) := dk_4 (dk_at dksX7_isPerson_0 22 rfl rfl)
theorem dX7_isPerson_23 : decode cX7_isPerson 23 = .ok (.goto 4, 3) := dk_167 0 4 (dk_at dksX7_isPerson_1 0 rfl rfl)
theorem dX7_isPerson_26 : decode cX7_isPerson 26 = .ok (.iconst 0, 1) := dk_3 (dk_at dksX7_isPerson_1 3 rfl rfl)
theorem dX7_isPerson_27 : decode cX7_isPerson 27 = .ok (.ireturn, 1) := dk_172 (dk_at dksX7_isPerson_1 4 rfl rfl)
abbrev cX7_near : ByteArray := prog_14_method_50_code
def yX7_near : MethodName := ⟨RX7, "near", "(I)I"⟩
def dkwX7_near_0 : List UInt8 := [42, 180, 1, 24, 180, 0, 233, 27, 46, 172]
abbrev dktX7_near_0 : List UInt8 := dkwX7_near_0 ++ []
theorem dksX7_near_0 : cX7_near.data.toList.drop 0 = dktX7_near_0 := by decide +kernel
theorem dX7_near_0 : decode cX7_near 0 = .ok (.aload_n 0, 1) := dk_42 (dk_at dksX7_near_0 0 rfl rfl)
theorem dX7_near_1 : decode cX7_near 1 = .ok (.getfield 280, 3) := dk_180 1 24 (dk_at dksX7_near_0 1 rfl rfl)
theorem dX7_near_4 : decode cX7_near 4 = .ok (.getfield 233, 3) := dk_180 0 233 (dk_at dksX7_near_0 4 rfl rfl)
theorem dX7_near_7 : decode cX7_near 7 = .ok (.iload_n 1, 1) := dk_27 (dk_at dksX7_near_0 7 rfl rfl)
theorem dX7_near_8 : decode cX7_near 8 = .ok (.iaload, 1) := dk_46 (dk_at dksX7_near_0 8 rfl rfl)
theorem dX7_near_9 : decode cX7_near 9 = .ok (.ireturn, 1) := dk_172 (dk_at dksX7_near_0 9 rfl rfl)
abbrev cX7_canAsk : ByteArray := prog_14_method_51_code
def yX7_canAsk : MethodName := ⟨RX7, "canAsk", "(I)I"⟩
def dkwX7_canAsk_3 : List UInt8 := [132, 3, 1, 167, 255, 187, 28, 172]
abbrev dktX7_canAsk_3 : List UInt8 := dkwX7_canAsk_3 ++ []
def dkwX7_canAsk_2 : List UInt8 := [153, 0, 21, 42, 180, 1, 24, 27, 29, 182, 0, 244, 153, 0, 9, 4, 29, 120, 167, 0, 4, 3, 128, 61]
abbrev dktX7_canAsk_2 : List UInt8 := dkwX7_canAsk_2 ++ dktX7_canAsk_3
def dkwX7_canAsk_1 : List UInt8 := [180, 0, 17, 16, 42, 46, 27, 184, 0, 235, 153, 0, 35, 42, 180, 0, 17, 16, 42, 46, 29, 184, 0, 235]
abbrev dktX7_canAsk_1 : List UInt8 := dkwX7_canAsk_1 ++ dktX7_canAsk_2
def dkwX7_canAsk_0 : List UInt8 := [3, 61, 3, 62, 29, 42, 180, 1, 24, 180, 0, 170, 162, 0, 64, 28, 29, 27, 159, 0, 49, 42]
abbrev dktX7_canAsk_0 : List UInt8 := dkwX7_canAsk_0 ++ dktX7_canAsk_1
theorem dksX7_canAsk_0 : cX7_canAsk.data.toList.drop 0 = dktX7_canAsk_0 := by decide +kernel
theorem dksX7_canAsk_1 : cX7_canAsk.data.toList.drop 22 = dktX7_canAsk_1 := dk_seg dksX7_canAsk_0 22 rfl rfl
theorem dksX7_canAsk_2 : cX7_canAsk.data.toList.drop 46 = dktX7_canAsk_2 := dk_seg dksX7_canAsk_1 24 rfl rfl
theorem dksX7_canAsk_3 : cX7_canAsk.data.toList.drop 70 = dktX7_canAsk_3 := dk_seg dksX7_canAsk_2 24 rfl rfl
theorem dX7_canAsk_0 : decode cX7_canAsk 0 = .ok (.iconst 0, 1) := dk_3 (dk_at dksX7_canAsk_0 0 rfl rfl)
theorem dX7_canAsk_1 : decode cX7_canAsk 1 = .ok (.istore_n 2, 1) := dk_61 (dk_at dksX7_canAsk_0 1 rfl rfl)
theorem dX7_canAsk_2 : decode cX7_canAsk 2 = .ok (.iconst 0, 1) := dk_3 (dk_at dksX7_canAsk_0 2 rfl rfl)
theorem dX7_canAsk_3 : decode cX7_canAsk 3 = .ok (.istore_n 3, 1) := dk_62 (dk_at dksX7_canAsk_0 3 rfl rfl)
theorem dX7_canAsk_4 : decode cX7_canAsk 4 = .ok (.iload_n 3, 1) := dk_29 (dk_at dksX7_canAsk_0 4 rfl rfl)
theorem dX7_canAsk_5 : decode cX7_canAsk 5 = .ok (.aload_n 0, 1) := dk_42 (dk_at dksX7_canAsk_0 5 rfl rfl)
theorem dX7_canAsk_6 : decode cX7_canAsk 6 = .ok (.getfield 280, 3) := dk_180 1 24 (dk_at dksX7_canAsk_0 6 rfl rfl)
theorem dX7_canAsk_9 : decode cX7_canAsk 9 = .ok (.getfield 170, 3) := dk_180 0 170 (dk_at dksX7_canAsk_0 9 rfl rfl)
theorem dX7_canAsk_12 : decode cX7_canAsk 12 = .ok (.if_icmp .ge 64, 3) := dk_162 0 64 (dk_at dksX7_canAsk_0 12 rfl rfl)
theorem dX7_canAsk_15 : decode cX7_canAsk 15 = .ok (.iload_n 2, 1) := dk_28 (dk_at dksX7_canAsk_0 15 rfl rfl)
theorem dX7_canAsk_16 : decode cX7_canAsk 16 = .ok (.iload_n 3, 1) := dk_29 (dk_at dksX7_canAsk_0 16 rfl rfl)
theorem dX7_canAsk_17 : decode cX7_canAsk 17 = .ok (.iload_n 1, 1) := dk_27 (dk_at dksX7_canAsk_0 17 rfl rfl)
theorem dX7_canAsk_18 : decode cX7_canAsk 18 = .ok (.if_icmp .eq 49, 3) := dk_159 0 49 (dk_at dksX7_canAsk_0 18 rfl rfl)
theorem dX7_canAsk_21 : decode cX7_canAsk 21 = .ok (.aload_n 0, 1) := dk_42 (dk_at dksX7_canAsk_0 21 rfl rfl)
theorem dX7_canAsk_22 : decode cX7_canAsk 22 = .ok (.getfield 17, 3) := dk_180 0 17 (dk_at dksX7_canAsk_1 0 rfl rfl)
theorem dX7_canAsk_25 : decode cX7_canAsk 25 = .ok (.bipush 42, 2) := dk_16 42 (dk_at dksX7_canAsk_1 3 rfl rfl)
theorem dX7_canAsk_27 : decode cX7_canAsk 27 = .ok (.iaload, 1) := dk_46 (dk_at dksX7_canAsk_1 5 rfl rfl)
theorem dX7_canAsk_28 : decode cX7_canAsk 28 = .ok (.iload_n 1, 1) := dk_27 (dk_at dksX7_canAsk_1 6 rfl rfl)
theorem dX7_canAsk_29 : decode cX7_canAsk 29 = .ok (.invokestatic 235, 3) := dk_184 0 235 (dk_at dksX7_canAsk_1 7 rfl rfl)
theorem dX7_canAsk_32 : decode cX7_canAsk 32 = .ok (.ifCond .eq 35, 3) := dk_153 0 35 (dk_at dksX7_canAsk_1 10 rfl rfl)
theorem dX7_canAsk_35 : decode cX7_canAsk 35 = .ok (.aload_n 0, 1) := dk_42 (dk_at dksX7_canAsk_1 13 rfl rfl)
theorem dX7_canAsk_36 : decode cX7_canAsk 36 = .ok (.getfield 17, 3) := dk_180 0 17 (dk_at dksX7_canAsk_1 14 rfl rfl)
theorem dX7_canAsk_39 : decode cX7_canAsk 39 = .ok (.bipush 42, 2) := dk_16 42 (dk_at dksX7_canAsk_1 17 rfl rfl)
theorem dX7_canAsk_41 : decode cX7_canAsk 41 = .ok (.iaload, 1) := dk_46 (dk_at dksX7_canAsk_1 19 rfl rfl)
theorem dX7_canAsk_42 : decode cX7_canAsk 42 = .ok (.iload_n 3, 1) := dk_29 (dk_at dksX7_canAsk_1 20 rfl rfl)
theorem dX7_canAsk_43 : decode cX7_canAsk 43 = .ok (.invokestatic 235, 3) := dk_184 0 235 (dk_at dksX7_canAsk_1 21 rfl rfl)
theorem dX7_canAsk_46 : decode cX7_canAsk 46 = .ok (.ifCond .eq 21, 3) := dk_153 0 21 (dk_at dksX7_canAsk_2 0 rfl rfl)
theorem dX7_canAsk_49 : decode cX7_canAsk 49 = .ok (.aload_n 0, 1) := dk_42 (dk_at dksX7_canAsk_2 3 rfl rfl)
theorem dX7_canAsk_50 : decode cX7_canAsk 50 = .ok (.getfield 280, 3) := dk_180 1 24 (dk_at dksX7_canAsk_2 4 rfl rfl)
theorem dX7_canAsk_53 : decode cX7_canAsk 53 = .ok (.iload_n 1, 1) := dk_27 (dk_at dksX7_canAsk_2 7 rfl rfl)
theorem dX7_canAsk_54 : decode cX7_canAsk 54 = .ok (.iload_n 3, 1) := dk_29 (dk_at dksX7_canAsk_2 8 rfl rfl)
theorem dX7_canAsk_55 : decode cX7_canAsk 55 = .ok (.invokevirtual 244, 3) := dk_182 0 244 (dk_at dksX7_canAsk_2 9 rfl rfl)
theorem dX7_canAsk_58 : decode cX7_canAsk 58 = .ok (.ifCond .eq 9, 3) := dk_153 0 9 (dk_at dksX7_canAsk_2 12 rfl rfl)
theorem dX7_canAsk_61 : decode cX7_canAsk 61 = .ok (.iconst 1, 1) := dk_4 (dk_at dksX7_canAsk_2 15 rfl rfl)
theorem dX7_canAsk_62 : decode cX7_canAsk 62 = .ok (.iload_n 3, 1) := dk_29 (dk_at dksX7_canAsk_2 16 rfl rfl)
theorem dX7_canAsk_63 : decode cX7_canAsk 63 = .ok (.ishl, 1) := dk_120 (dk_at dksX7_canAsk_2 17 rfl rfl)
theorem dX7_canAsk_64 : decode cX7_canAsk 64 = .ok (.goto 4, 3) := dk_167 0 4 (dk_at dksX7_canAsk_2 18 rfl rfl)
theorem dX7_canAsk_67 : decode cX7_canAsk 67 = .ok (.iconst 0, 1) := dk_3 (dk_at dksX7_canAsk_2 21 rfl rfl)
theorem dX7_canAsk_68 : decode cX7_canAsk 68 = .ok (.ior, 1) := dk_128 (dk_at dksX7_canAsk_2 22 rfl rfl)
theorem dX7_canAsk_69 : decode cX7_canAsk 69 = .ok (.istore_n 2, 1) := dk_61 (dk_at dksX7_canAsk_2 23 rfl rfl)
theorem dX7_canAsk_70 : decode cX7_canAsk 70 = .ok (.iinc 3 1, 3) := dk_132 3 1 (dk_at dksX7_canAsk_3 0 rfl rfl)
theorem dX7_canAsk_73 : decode cX7_canAsk 73 = .ok (.goto (-69), 3) := dk_167 255 187 (dk_at dksX7_canAsk_3 3 rfl rfl)
theorem dX7_canAsk_76 : decode cX7_canAsk 76 = .ok (.iload_n 2, 1) := dk_28 (dk_at dksX7_canAsk_3 6 rfl rfl)
theorem dX7_canAsk_77 : decode cX7_canAsk 77 = .ok (.ireturn, 1) := dk_172 (dk_at dksX7_canAsk_3 7 rfl rfl)
abbrev cX7_canBeAsked : ByteArray := prog_14_method_52_code
def yX7_canBeAsked : MethodName := ⟨RX7, "canBeAsked", "(I)I"⟩
def dkwX7_canBeAsked_2 : List UInt8 := [167, 255, 215, 28, 172]
abbrev dktX7_canBeAsked_2 : List UInt8 := dkwX7_canBeAsked_2 ++ []
def dkwX7_canBeAsked_1 : List UInt8 := [182, 1, 62, 27, 184, 0, 235, 153, 0, 9, 4, 29, 120, 167, 0, 4, 3, 128, 61, 132, 3, 1]
abbrev dktX7_canBeAsked_1 : List UInt8 := dkwX7_canBeAsked_1 ++ dktX7_canBeAsked_2
def dkwX7_canBeAsked_0 : List UInt8 := [3, 61, 3, 62, 29, 42, 180, 1, 24, 180, 0, 170, 162, 0, 36, 28, 29, 27, 159, 0, 21, 42, 29]
abbrev dktX7_canBeAsked_0 : List UInt8 := dkwX7_canBeAsked_0 ++ dktX7_canBeAsked_1
theorem dksX7_canBeAsked_0 : cX7_canBeAsked.data.toList.drop 0 = dktX7_canBeAsked_0 := by decide +kernel
theorem dksX7_canBeAsked_1 : cX7_canBeAsked.data.toList.drop 23 = dktX7_canBeAsked_1 := dk_seg dksX7_canBeAsked_0 23 rfl rfl
theorem dksX7_canBeAsked_2 : cX7_canBeAsked.data.toList.drop 45 = dktX7_canBeAsked_2 := dk_seg dksX7_canBeAsked_1 22 rfl rfl
theorem dX7_canBeAsked_0 : decode cX7_canBeAsked 0 = .ok (.iconst 0, 1) := dk_3 (dk_at dksX7_canBeAsked_0 0 rfl rfl)
theorem dX7_canBeAsked_1 : decode cX7_canBeAsked 1 = .ok (.istore_n 2, 1) := dk_61 (dk_at dksX7_canBeAsked_0 1 rfl rfl)
theorem dX7_canBeAsked_2 : decode cX7_canBeAsked 2 = .ok (.iconst 0, 1) := dk_3 (dk_at dksX7_canBeAsked_0 2 rfl rfl)
theorem dX7_canBeAsked_3 : decode cX7_canBeAsked 3 = .ok (.istore_n 3, 1) := dk_62 (dk_at dksX7_canBeAsked_0 3 rfl rfl)
theorem dX7_canBeAsked_4 : decode cX7_canBeAsked 4 = .ok (.iload_n 3, 1) := dk_29 (dk_at dksX7_canBeAsked_0 4 rfl rfl)
theorem dX7_canBeAsked_5 : decode cX7_canBeAsked 5 = .ok (.aload_n 0, 1) := dk_42 (dk_at dksX7_canBeAsked_0 5 rfl rfl)
theorem dX7_canBeAsked_6 : decode cX7_canBeAsked 6 = .ok (.getfield 280, 3) := dk_180 1 24 (dk_at dksX7_canBeAsked_0 6 rfl rfl)
theorem dX7_canBeAsked_9 : decode cX7_canBeAsked 9 = .ok (.getfield 170, 3) := dk_180 0 170 (dk_at dksX7_canBeAsked_0 9 rfl rfl)
theorem dX7_canBeAsked_12 : decode cX7_canBeAsked 12 = .ok (.if_icmp .ge 36, 3) := dk_162 0 36 (dk_at dksX7_canBeAsked_0 12 rfl rfl)
theorem dX7_canBeAsked_15 : decode cX7_canBeAsked 15 = .ok (.iload_n 2, 1) := dk_28 (dk_at dksX7_canBeAsked_0 15 rfl rfl)
theorem dX7_canBeAsked_16 : decode cX7_canBeAsked 16 = .ok (.iload_n 3, 1) := dk_29 (dk_at dksX7_canBeAsked_0 16 rfl rfl)
theorem dX7_canBeAsked_17 : decode cX7_canBeAsked 17 = .ok (.iload_n 1, 1) := dk_27 (dk_at dksX7_canBeAsked_0 17 rfl rfl)
theorem dX7_canBeAsked_18 : decode cX7_canBeAsked 18 = .ok (.if_icmp .eq 21, 3) := dk_159 0 21 (dk_at dksX7_canBeAsked_0 18 rfl rfl)
theorem dX7_canBeAsked_21 : decode cX7_canBeAsked 21 = .ok (.aload_n 0, 1) := dk_42 (dk_at dksX7_canBeAsked_0 21 rfl rfl)
theorem dX7_canBeAsked_22 : decode cX7_canBeAsked 22 = .ok (.iload_n 3, 1) := dk_29 (dk_at dksX7_canBeAsked_0 22 rfl rfl)
theorem dX7_canBeAsked_23 : decode cX7_canBeAsked 23 = .ok (.invokevirtual 318, 3) := dk_182 1 62 (dk_at dksX7_canBeAsked_1 0 rfl rfl)
theorem dX7_canBeAsked_26 : decode cX7_canBeAsked 26 = .ok (.iload_n 1, 1) := dk_27 (dk_at dksX7_canBeAsked_1 3 rfl rfl)
theorem dX7_canBeAsked_27 : decode cX7_canBeAsked 27 = .ok (.invokestatic 235, 3) := dk_184 0 235 (dk_at dksX7_canBeAsked_1 4 rfl rfl)
theorem dX7_canBeAsked_30 : decode cX7_canBeAsked 30 = .ok (.ifCond .eq 9, 3) := dk_153 0 9 (dk_at dksX7_canBeAsked_1 7 rfl rfl)
theorem dX7_canBeAsked_33 : decode cX7_canBeAsked 33 = .ok (.iconst 1, 1) := dk_4 (dk_at dksX7_canBeAsked_1 10 rfl rfl)
theorem dX7_canBeAsked_34 : decode cX7_canBeAsked 34 = .ok (.iload_n 3, 1) := dk_29 (dk_at dksX7_canBeAsked_1 11 rfl rfl)
theorem dX7_canBeAsked_35 : decode cX7_canBeAsked 35 = .ok (.ishl, 1) := dk_120 (dk_at dksX7_canBeAsked_1 12 rfl rfl)
theorem dX7_canBeAsked_36 : decode cX7_canBeAsked 36 = .ok (.goto 4, 3) := dk_167 0 4 (dk_at dksX7_canBeAsked_1 13 rfl rfl)
theorem dX7_canBeAsked_39 : decode cX7_canBeAsked 39 = .ok (.iconst 0, 1) := dk_3 (dk_at dksX7_canBeAsked_1 16 rfl rfl)
theorem dX7_canBeAsked_40 : decode cX7_canBeAsked 40 = .ok (.ior, 1) := dk_128 (dk_at dksX7_canBeAsked_1 17 rfl rfl)
theorem dX7_canBeAsked_41 : decode cX7_canBeAsked 41 = .ok (.istore_n 2, 1) := dk_61 (dk_at dksX7_canBeAsked_1 18 rfl rfl)
theorem dX7_canBeAsked_42 : decode cX7_canBeAsked 42 = .ok (.iinc 3 1, 3) := dk_132 3 1 (dk_at dksX7_canBeAsked_1 19 rfl rfl)
theorem dX7_canBeAsked_45 : decode cX7_canBeAsked 45 = .ok (.goto (-41), 3) := dk_167 255 215 (dk_at dksX7_canBeAsked_2 0 rfl rfl)
theorem dX7_canBeAsked_48 : decode cX7_canBeAsked 48 = .ok (.iload_n 2, 1) := dk_28 (dk_at dksX7_canBeAsked_2 3 rfl rfl)
theorem dX7_canBeAsked_49 : decode cX7_canBeAsked 49 = .ok (.ireturn, 1) := dk_172 (dk_at dksX7_canBeAsked_2 4 rfl rfl)
abbrev cX7_register : ByteArray := prog_14_method_54_code
def yX7_register : MethodName := ⟨RX7, "register", "(II)I"⟩
def dkwX7_register_2 : List UInt8 := [182, 0, 61, 172]
abbrev dktX7_register_2 : List UInt8 := dkwX7_register_2 ++ []
def dkwX7_register_1 : List UInt8 := [16, 6, 16, 6, 27, 104, 96, 28, 96, 46, 62, 42, 29, 2, 160, 0, 8, 16, 254, 167, 0, 4, 29]
abbrev dktX7_register_1 : List UInt8 := dkwX7_register_1 ++ dktX7_register_2
def dkwX7_register_0 : List UInt8 := [42, 3, 181, 0, 51, 42, 27, 28, 182, 1, 70, 154, 0, 9, 42, 4, 182, 0, 57, 172, 42, 180, 0, 17]
abbrev dktX7_register_0 : List UInt8 := dkwX7_register_0 ++ dktX7_register_1
theorem dksX7_register_0 : cX7_register.data.toList.drop 0 = dktX7_register_0 := by decide +kernel
theorem dksX7_register_1 : cX7_register.data.toList.drop 24 = dktX7_register_1 := dk_seg dksX7_register_0 24 rfl rfl
theorem dksX7_register_2 : cX7_register.data.toList.drop 47 = dktX7_register_2 := dk_seg dksX7_register_1 23 rfl rfl
theorem dX7_register_0 : decode cX7_register 0 = .ok (.aload_n 0, 1) := dk_42 (dk_at dksX7_register_0 0 rfl rfl)
theorem dX7_register_1 : decode cX7_register 1 = .ok (.iconst 0, 1) := dk_3 (dk_at dksX7_register_0 1 rfl rfl)
theorem dX7_register_2 : decode cX7_register 2 = .ok (.putfield 51, 3) := dk_181 0 51 (dk_at dksX7_register_0 2 rfl rfl)
theorem dX7_register_5 : decode cX7_register 5 = .ok (.aload_n 0, 1) := dk_42 (dk_at dksX7_register_0 5 rfl rfl)
theorem dX7_register_6 : decode cX7_register 6 = .ok (.iload_n 1, 1) := dk_27 (dk_at dksX7_register_0 6 rfl rfl)
theorem dX7_register_7 : decode cX7_register 7 = .ok (.iload_n 2, 1) := dk_28 (dk_at dksX7_register_0 7 rfl rfl)
theorem dX7_register_8 : decode cX7_register 8 = .ok (.invokevirtual 326, 3) := dk_182 1 70 (dk_at dksX7_register_0 8 rfl rfl)
theorem dX7_register_11 : decode cX7_register 11 = .ok (.ifCond .ne 9, 3) := dk_154 0 9 (dk_at dksX7_register_0 11 rfl rfl)
theorem dX7_register_14 : decode cX7_register 14 = .ok (.aload_n 0, 1) := dk_42 (dk_at dksX7_register_0 14 rfl rfl)
theorem dX7_register_15 : decode cX7_register 15 = .ok (.iconst 1, 1) := dk_4 (dk_at dksX7_register_0 15 rfl rfl)
theorem dX7_register_16 : decode cX7_register 16 = .ok (.invokevirtual 57, 3) := dk_182 0 57 (dk_at dksX7_register_0 16 rfl rfl)
theorem dX7_register_19 : decode cX7_register 19 = .ok (.ireturn, 1) := dk_172 (dk_at dksX7_register_0 19 rfl rfl)
theorem dX7_register_20 : decode cX7_register 20 = .ok (.aload_n 0, 1) := dk_42 (dk_at dksX7_register_0 20 rfl rfl)
theorem dX7_register_21 : decode cX7_register 21 = .ok (.getfield 17, 3) := dk_180 0 17 (dk_at dksX7_register_0 21 rfl rfl)
theorem dX7_register_24 : decode cX7_register 24 = .ok (.bipush 6, 2) := dk_16 6 (dk_at dksX7_register_1 0 rfl rfl)
theorem dX7_register_26 : decode cX7_register 26 = .ok (.bipush 6, 2) := dk_16 6 (dk_at dksX7_register_1 2 rfl rfl)
theorem dX7_register_28 : decode cX7_register 28 = .ok (.iload_n 1, 1) := dk_27 (dk_at dksX7_register_1 4 rfl rfl)
theorem dX7_register_29 : decode cX7_register 29 = .ok (.imul, 1) := dk_104 (dk_at dksX7_register_1 5 rfl rfl)
theorem dX7_register_30 : decode cX7_register 30 = .ok (.iadd, 1) := dk_96 (dk_at dksX7_register_1 6 rfl rfl)
theorem dX7_register_31 : decode cX7_register 31 = .ok (.iload_n 2, 1) := dk_28 (dk_at dksX7_register_1 7 rfl rfl)
theorem dX7_register_32 : decode cX7_register 32 = .ok (.iadd, 1) := dk_96 (dk_at dksX7_register_1 8 rfl rfl)
theorem dX7_register_33 : decode cX7_register 33 = .ok (.iaload, 1) := dk_46 (dk_at dksX7_register_1 9 rfl rfl)
theorem dX7_register_34 : decode cX7_register 34 = .ok (.istore_n 3, 1) := dk_62 (dk_at dksX7_register_1 10 rfl rfl)
theorem dX7_register_35 : decode cX7_register 35 = .ok (.aload_n 0, 1) := dk_42 (dk_at dksX7_register_1 11 rfl rfl)
theorem dX7_register_36 : decode cX7_register 36 = .ok (.iload_n 3, 1) := dk_29 (dk_at dksX7_register_1 12 rfl rfl)
theorem dX7_register_37 : decode cX7_register 37 = .ok (.iconst (-1), 1) := dk_2 (dk_at dksX7_register_1 13 rfl rfl)
theorem dX7_register_38 : decode cX7_register 38 = .ok (.if_icmp .ne 8, 3) := dk_160 0 8 (dk_at dksX7_register_1 14 rfl rfl)
theorem dX7_register_41 : decode cX7_register 41 = .ok (.bipush (-2), 2) := dk_16 254 (dk_at dksX7_register_1 17 rfl rfl)
theorem dX7_register_43 : decode cX7_register 43 = .ok (.goto 4, 3) := dk_167 0 4 (dk_at dksX7_register_1 19 rfl rfl)
theorem dX7_register_46 : decode cX7_register 46 = .ok (.iload_n 3, 1) := dk_29 (dk_at dksX7_register_1 22 rfl rfl)
theorem dX7_register_47 : decode cX7_register 47 = .ok (.invokevirtual 61, 3) := dk_182 0 61 (dk_at dksX7_register_2 0 rfl rfl)
theorem dX7_register_50 : decode cX7_register 50 = .ok (.ireturn, 1) := dk_172 (dk_at dksX7_register_2 3 rfl rfl)
abbrev cX7_areTwo : ByteArray := prog_14_method_39_code
def yX7_areTwo : MethodName := ⟨RX7, "areTwo", "(II)Z"⟩
def dkwX7_areTwo_1 : List UInt8 := [167, 0, 4, 3, 172]
abbrev dktX7_areTwo_1 : List UInt8 := dkwX7_areTwo_1 ++ []
def dkwX7_areTwo_0 : List UInt8 := [42, 27, 182, 1, 35, 153, 0, 20, 42, 28, 182, 1, 35, 153, 0, 12, 27, 28, 159, 0, 7, 4]
abbrev dktX7_areTwo_0 : List UInt8 := dkwX7_areTwo_0 ++ dktX7_areTwo_1
theorem dksX7_areTwo_0 : cX7_areTwo.data.toList.drop 0 = dktX7_areTwo_0 := by decide +kernel
theorem dksX7_areTwo_1 : cX7_areTwo.data.toList.drop 22 = dktX7_areTwo_1 := dk_seg dksX7_areTwo_0 22 rfl rfl
theorem dX7_areTwo_0 : decode cX7_areTwo 0 = .ok (.aload_n 0, 1) := dk_42 (dk_at dksX7_areTwo_0 0 rfl rfl)
theorem dX7_areTwo_1 : decode cX7_areTwo 1 = .ok (.iload_n 1, 1) := dk_27 (dk_at dksX7_areTwo_0 1 rfl rfl)
theorem dX7_areTwo_2 : decode cX7_areTwo 2 = .ok (.invokevirtual 291, 3) := dk_182 1 35 (dk_at dksX7_areTwo_0 2 rfl rfl)
theorem dX7_areTwo_5 : decode cX7_areTwo 5 = .ok (.ifCond .eq 20, 3) := dk_153 0 20 (dk_at dksX7_areTwo_0 5 rfl rfl)
theorem dX7_areTwo_8 : decode cX7_areTwo 8 = .ok (.aload_n 0, 1) := dk_42 (dk_at dksX7_areTwo_0 8 rfl rfl)
theorem dX7_areTwo_9 : decode cX7_areTwo 9 = .ok (.iload_n 2, 1) := dk_28 (dk_at dksX7_areTwo_0 9 rfl rfl)
theorem dX7_areTwo_10 : decode cX7_areTwo 10 = .ok (.invokevirtual 291, 3) := dk_182 1 35 (dk_at dksX7_areTwo_0 10 rfl rfl)
theorem dX7_areTwo_13 : decode cX7_areTwo 13 = .ok (.ifCond .eq 12, 3) := dk_153 0 12 (dk_at dksX7_areTwo_0 13 rfl rfl)
theorem dX7_areTwo_16 : decode cX7_areTwo 16 = .ok (.iload_n 1, 1) := dk_27 (dk_at dksX7_areTwo_0 16 rfl rfl)
theorem dX7_areTwo_17 : decode cX7_areTwo 17 = .ok (.iload_n 2, 1) := dk_28 (dk_at dksX7_areTwo_0 17 rfl rfl)
theorem dX7_areTwo_18 : decode cX7_areTwo 18 = .ok (.if_icmp .eq 7, 3) := dk_159 0 7 (dk_at dksX7_areTwo_0 18 rfl rfl)
theorem dX7_areTwo_21 : decode cX7_areTwo 21 = .ok (.iconst 1, 1) := dk_4 (dk_at dksX7_areTwo_0 21 rfl rfl)
theorem dX7_areTwo_22 : decode cX7_areTwo 22 = .ok (.goto 4, 3) := dk_167 0 4 (dk_at dksX7_areTwo_1 0 rfl rfl)
theorem dX7_areTwo_25 : decode cX7_areTwo 25 = .ok (.iconst 0, 1) := dk_3 (dk_at dksX7_areTwo_1 3 rfl rfl)
theorem dX7_areTwo_26 : decode cX7_areTwo 26 = .ok (.ireturn, 1) := dk_172 (dk_at dksX7_areTwo_1 4 rfl rfl)
abbrev cX7_heir : ByteArray := prog_14_method_56_code
def yX7_heir : MethodName := ⟨RX7, "heir", "(I)I"⟩
def dkwX7_heir_1 : List UInt8 := [182, 1, 59, 42, 42, 27, 182, 1, 44, 182, 0, 61, 172]
abbrev dktX7_heir_1 : List UInt8 := dkwX7_heir_1 ++ []
def dkwX7_heir_0 : List UInt8 := [42, 3, 181, 0, 51, 42, 27, 182, 1, 73, 61, 28, 158, 0, 9, 42, 28, 182, 0, 57, 172, 42]
abbrev dktX7_heir_0 : List UInt8 := dkwX7_heir_0 ++ dktX7_heir_1
theorem dksX7_heir_0 : cX7_heir.data.toList.drop 0 = dktX7_heir_0 := by decide +kernel
theorem dksX7_heir_1 : cX7_heir.data.toList.drop 22 = dktX7_heir_1 := dk_seg dksX7_heir_0 22 rfl rfl
theorem dX7_heir_0 : decode cX7_heir 0 = .ok (.aload_n 0, 1) := dk_42 (dk_at dksX7_heir_0 0 rfl rfl)
theorem dX7_heir_1 : decode cX7_heir 1 = .ok (.iconst 0, 1) := dk_3 (dk_at dksX7_heir_0 1 rfl rfl)
theorem dX7_heir_2 : decode cX7_heir 2 = .ok (.putfield 51, 3) := dk_181 0 51 (dk_at dksX7_heir_0 2 rfl rfl)
theorem dX7_heir_5 : decode cX7_heir 5 = .ok (.aload_n 0, 1) := dk_42 (dk_at dksX7_heir_0 5 rfl rfl)
theorem dX7_heir_6 : decode cX7_heir 6 = .ok (.iload_n 1, 1) := dk_27 (dk_at dksX7_heir_0 6 rfl rfl)
theorem dX7_heir_7 : decode cX7_heir 7 = .ok (.invokevirtual 329, 3) := dk_182 1 73 (dk_at dksX7_heir_0 7 rfl rfl)
theorem dX7_heir_10 : decode cX7_heir 10 = .ok (.istore_n 2, 1) := dk_61 (dk_at dksX7_heir_0 10 rfl rfl)
theorem dX7_heir_11 : decode cX7_heir 11 = .ok (.iload_n 2, 1) := dk_28 (dk_at dksX7_heir_0 11 rfl rfl)
theorem dX7_heir_12 : decode cX7_heir 12 = .ok (.ifCond .le 9, 3) := dk_158 0 9 (dk_at dksX7_heir_0 12 rfl rfl)
theorem dX7_heir_15 : decode cX7_heir 15 = .ok (.aload_n 0, 1) := dk_42 (dk_at dksX7_heir_0 15 rfl rfl)
theorem dX7_heir_16 : decode cX7_heir 16 = .ok (.iload_n 2, 1) := dk_28 (dk_at dksX7_heir_0 16 rfl rfl)
theorem dX7_heir_17 : decode cX7_heir 17 = .ok (.invokevirtual 57, 3) := dk_182 0 57 (dk_at dksX7_heir_0 17 rfl rfl)
theorem dX7_heir_20 : decode cX7_heir 20 = .ok (.ireturn, 1) := dk_172 (dk_at dksX7_heir_0 20 rfl rfl)
theorem dX7_heir_21 : decode cX7_heir 21 = .ok (.aload_n 0, 1) := dk_42 (dk_at dksX7_heir_0 21 rfl rfl)
theorem dX7_heir_22 : decode cX7_heir 22 = .ok (.invokevirtual 315, 3) := dk_182 1 59 (dk_at dksX7_heir_1 0 rfl rfl)
theorem dX7_heir_25 : decode cX7_heir 25 = .ok (.aload_n 0, 1) := dk_42 (dk_at dksX7_heir_1 3 rfl rfl)
theorem dX7_heir_26 : decode cX7_heir 26 = .ok (.aload_n 0, 1) := dk_42 (dk_at dksX7_heir_1 4 rfl rfl)
theorem dX7_heir_27 : decode cX7_heir 27 = .ok (.iload_n 1, 1) := dk_27 (dk_at dksX7_heir_1 5 rfl rfl)
theorem dX7_heir_28 : decode cX7_heir 28 = .ok (.invokevirtual 300, 3) := dk_182 1 44 (dk_at dksX7_heir_1 6 rfl rfl)
theorem dX7_heir_31 : decode cX7_heir 31 = .ok (.invokevirtual 61, 3) := dk_182 0 61 (dk_at dksX7_heir_1 9 rfl rfl)
theorem dX7_heir_34 : decode cX7_heir 34 = .ok (.ireturn, 1) := dk_172 (dk_at dksX7_heir_1 12 rfl rfl)
abbrev cX7_refusesLiving : ByteArray := prog_14_method_55_code
def yX7_refusesLiving : MethodName := ⟨RX7, "refusesLiving", "(I)I"⟩
def dkwX7_refusesLiving_1 : List UInt8 := [153, 0, 7, 3, 167, 0, 4, 8, 172]
abbrev dktX7_refusesLiving_1 : List UInt8 := dkwX7_refusesLiving_1 ++ []
def dkwX7_refusesLiving_0 : List UInt8 := [42, 27, 182, 1, 35, 154, 0, 7, 4, 167, 0, 22, 42, 180, 0, 17, 16, 42, 46, 27, 184, 0, 235]
abbrev dktX7_refusesLiving_0 : List UInt8 := dkwX7_refusesLiving_0 ++ dktX7_refusesLiving_1
theorem dksX7_refusesLiving_0 : cX7_refusesLiving.data.toList.drop 0 = dktX7_refusesLiving_0 := by decide +kernel
theorem dksX7_refusesLiving_1 : cX7_refusesLiving.data.toList.drop 23 = dktX7_refusesLiving_1 := dk_seg dksX7_refusesLiving_0 23 rfl rfl
theorem dX7_refusesLiving_0 : decode cX7_refusesLiving 0 = .ok (.aload_n 0, 1) := dk_42 (dk_at dksX7_refusesLiving_0 0 rfl rfl)
theorem dX7_refusesLiving_1 : decode cX7_refusesLiving 1 = .ok (.iload_n 1, 1) := dk_27 (dk_at dksX7_refusesLiving_0 1 rfl rfl)
theorem dX7_refusesLiving_2 : decode cX7_refusesLiving 2 = .ok (.invokevirtual 291, 3) := dk_182 1 35 (dk_at dksX7_refusesLiving_0 2 rfl rfl)
theorem dX7_refusesLiving_5 : decode cX7_refusesLiving 5 = .ok (.ifCond .ne 7, 3) := dk_154 0 7 (dk_at dksX7_refusesLiving_0 5 rfl rfl)
theorem dX7_refusesLiving_8 : decode cX7_refusesLiving 8 = .ok (.iconst 1, 1) := dk_4 (dk_at dksX7_refusesLiving_0 8 rfl rfl)
theorem dX7_refusesLiving_9 : decode cX7_refusesLiving 9 = .ok (.goto 22, 3) := dk_167 0 22 (dk_at dksX7_refusesLiving_0 9 rfl rfl)
theorem dX7_refusesLiving_12 : decode cX7_refusesLiving 12 = .ok (.aload_n 0, 1) := dk_42 (dk_at dksX7_refusesLiving_0 12 rfl rfl)
theorem dX7_refusesLiving_13 : decode cX7_refusesLiving 13 = .ok (.getfield 17, 3) := dk_180 0 17 (dk_at dksX7_refusesLiving_0 13 rfl rfl)
theorem dX7_refusesLiving_16 : decode cX7_refusesLiving 16 = .ok (.bipush 42, 2) := dk_16 42 (dk_at dksX7_refusesLiving_0 16 rfl rfl)
theorem dX7_refusesLiving_18 : decode cX7_refusesLiving 18 = .ok (.iaload, 1) := dk_46 (dk_at dksX7_refusesLiving_0 18 rfl rfl)
theorem dX7_refusesLiving_19 : decode cX7_refusesLiving 19 = .ok (.iload_n 1, 1) := dk_27 (dk_at dksX7_refusesLiving_0 19 rfl rfl)
theorem dX7_refusesLiving_20 : decode cX7_refusesLiving 20 = .ok (.invokestatic 235, 3) := dk_184 0 235 (dk_at dksX7_refusesLiving_0 20 rfl rfl)
theorem dX7_refusesLiving_23 : decode cX7_refusesLiving 23 = .ok (.ifCond .eq 7, 3) := dk_153 0 7 (dk_at dksX7_refusesLiving_1 0 rfl rfl)
theorem dX7_refusesLiving_26 : decode cX7_refusesLiving 26 = .ok (.iconst 0, 1) := dk_3 (dk_at dksX7_refusesLiving_1 3 rfl rfl)
theorem dX7_refusesLiving_27 : decode cX7_refusesLiving 27 = .ok (.goto 4, 3) := dk_167 0 4 (dk_at dksX7_refusesLiving_1 4 rfl rfl)
theorem dX7_refusesLiving_30 : decode cX7_refusesLiving 30 = .ok (.iconst 5, 1) := dk_8 (dk_at dksX7_refusesLiving_1 7 rfl rfl)
theorem dX7_refusesLiving_31 : decode cX7_refusesLiving 31 = .ok (.ireturn, 1) := dk_172 (dk_at dksX7_refusesLiving_1 8 rfl rfl)
abbrev cX7_works : ByteArray := prog_14_method_40_code
def yX7_works : MethodName := ⟨RX7, "works", "()V"⟩
def dkwX7_works_1 : List UInt8 := [167, 255, 235, 177]
abbrev dktX7_works_1 : List UInt8 := dkwX7_works_1 ++ []
def dkwX7_works_0 : List UInt8 := [3, 60, 27, 16, 47, 162, 0, 21, 42, 180, 0, 21, 27, 42, 180, 0, 17, 27, 46, 79, 132, 1, 1]
abbrev dktX7_works_0 : List UInt8 := dkwX7_works_0 ++ dktX7_works_1
theorem dksX7_works_0 : cX7_works.data.toList.drop 0 = dktX7_works_0 := by decide +kernel
theorem dksX7_works_1 : cX7_works.data.toList.drop 23 = dktX7_works_1 := dk_seg dksX7_works_0 23 rfl rfl
theorem dX7_works_0 : decode cX7_works 0 = .ok (.iconst 0, 1) := dk_3 (dk_at dksX7_works_0 0 rfl rfl)
theorem dX7_works_1 : decode cX7_works 1 = .ok (.istore_n 1, 1) := dk_60 (dk_at dksX7_works_0 1 rfl rfl)
theorem dX7_works_2 : decode cX7_works 2 = .ok (.iload_n 1, 1) := dk_27 (dk_at dksX7_works_0 2 rfl rfl)
theorem dX7_works_3 : decode cX7_works 3 = .ok (.bipush 47, 2) := dk_16 47 (dk_at dksX7_works_0 3 rfl rfl)
theorem dX7_works_5 : decode cX7_works 5 = .ok (.if_icmp .ge 21, 3) := dk_162 0 21 (dk_at dksX7_works_0 5 rfl rfl)
theorem dX7_works_8 : decode cX7_works 8 = .ok (.aload_n 0, 1) := dk_42 (dk_at dksX7_works_0 8 rfl rfl)
theorem dX7_works_9 : decode cX7_works 9 = .ok (.getfield 21, 3) := dk_180 0 21 (dk_at dksX7_works_0 9 rfl rfl)
theorem dX7_works_12 : decode cX7_works 12 = .ok (.iload_n 1, 1) := dk_27 (dk_at dksX7_works_0 12 rfl rfl)
theorem dX7_works_13 : decode cX7_works 13 = .ok (.aload_n 0, 1) := dk_42 (dk_at dksX7_works_0 13 rfl rfl)
theorem dX7_works_14 : decode cX7_works 14 = .ok (.getfield 17, 3) := dk_180 0 17 (dk_at dksX7_works_0 14 rfl rfl)
theorem dX7_works_17 : decode cX7_works 17 = .ok (.iload_n 1, 1) := dk_27 (dk_at dksX7_works_0 17 rfl rfl)
theorem dX7_works_18 : decode cX7_works 18 = .ok (.iaload, 1) := dk_46 (dk_at dksX7_works_0 18 rfl rfl)
theorem dX7_works_19 : decode cX7_works 19 = .ok (.iastore, 1) := dk_79 (dk_at dksX7_works_0 19 rfl rfl)
theorem dX7_works_20 : decode cX7_works 20 = .ok (.iinc 1 1, 3) := dk_132 1 1 (dk_at dksX7_works_0 20 rfl rfl)
theorem dX7_works_23 : decode cX7_works 23 = .ok (.goto (-21), 3) := dk_167 255 235 (dk_at dksX7_works_1 0 rfl rfl)
theorem dX7_works_26 : decode cX7_works 26 = .ok (.return_, 1) := dk_177 (dk_at dksX7_works_1 3 rfl rfl)
abbrev cX7_heirOf : ByteArray := prog_14_method_44_code
def yX7_heirOf : MethodName := ⟨RX7, "heirOf", "(I)I"⟩
def dkwX7_heirOf_3 : List UInt8 := [167, 255, 193, 28, 172]
abbrev dktX7_heirOf_3 : List UInt8 := dkwX7_heirOf_3 ++ []
def dkwX7_heirOf_2 : List UInt8 := [159, 0, 18, 42, 29, 27, 182, 1, 41, 42, 28, 27, 182, 1, 41, 164, 0, 5, 29, 61, 132, 3, 1]
abbrev dktX7_heirOf_2 : List UInt8 := dkwX7_heirOf_2 ++ dktX7_heirOf_3
def dkwX7_heirOf_1 : List UInt8 := [182, 1, 38, 153, 0, 39, 42, 29, 27, 182, 1, 41, 2, 160, 0, 6, 167, 0, 26, 28, 16, 254]
abbrev dktX7_heirOf_1 : List UInt8 := dkwX7_heirOf_1 ++ dktX7_heirOf_2
def dkwX7_heirOf_0 : List UInt8 := [16, 254, 61, 3, 62, 29, 42, 180, 1, 24, 180, 0, 170, 162, 0, 58, 29, 27, 159, 0, 47, 42, 29]
abbrev dktX7_heirOf_0 : List UInt8 := dkwX7_heirOf_0 ++ dktX7_heirOf_1
theorem dksX7_heirOf_0 : cX7_heirOf.data.toList.drop 0 = dktX7_heirOf_0 := by decide +kernel
theorem dksX7_heirOf_1 : cX7_heirOf.data.toList.drop 23 = dktX7_heirOf_1 := dk_seg dksX7_heirOf_0 23 rfl rfl
theorem dksX7_heirOf_2 : cX7_heirOf.data.toList.drop 45 = dktX7_heirOf_2 := dk_seg dksX7_heirOf_1 22 rfl rfl
theorem dksX7_heirOf_3 : cX7_heirOf.data.toList.drop 68 = dktX7_heirOf_3 := dk_seg dksX7_heirOf_2 23 rfl rfl
theorem dX7_heirOf_0 : decode cX7_heirOf 0 = .ok (.bipush (-2), 2) := dk_16 254 (dk_at dksX7_heirOf_0 0 rfl rfl)
theorem dX7_heirOf_2 : decode cX7_heirOf 2 = .ok (.istore_n 2, 1) := dk_61 (dk_at dksX7_heirOf_0 2 rfl rfl)
theorem dX7_heirOf_3 : decode cX7_heirOf 3 = .ok (.iconst 0, 1) := dk_3 (dk_at dksX7_heirOf_0 3 rfl rfl)
theorem dX7_heirOf_4 : decode cX7_heirOf 4 = .ok (.istore_n 3, 1) := dk_62 (dk_at dksX7_heirOf_0 4 rfl rfl)
theorem dX7_heirOf_5 : decode cX7_heirOf 5 = .ok (.iload_n 3, 1) := dk_29 (dk_at dksX7_heirOf_0 5 rfl rfl)
theorem dX7_heirOf_6 : decode cX7_heirOf 6 = .ok (.aload_n 0, 1) := dk_42 (dk_at dksX7_heirOf_0 6 rfl rfl)
theorem dX7_heirOf_7 : decode cX7_heirOf 7 = .ok (.getfield 280, 3) := dk_180 1 24 (dk_at dksX7_heirOf_0 7 rfl rfl)
theorem dX7_heirOf_10 : decode cX7_heirOf 10 = .ok (.getfield 170, 3) := dk_180 0 170 (dk_at dksX7_heirOf_0 10 rfl rfl)
theorem dX7_heirOf_13 : decode cX7_heirOf 13 = .ok (.if_icmp .ge 58, 3) := dk_162 0 58 (dk_at dksX7_heirOf_0 13 rfl rfl)
theorem dX7_heirOf_16 : decode cX7_heirOf 16 = .ok (.iload_n 3, 1) := dk_29 (dk_at dksX7_heirOf_0 16 rfl rfl)
theorem dX7_heirOf_17 : decode cX7_heirOf 17 = .ok (.iload_n 1, 1) := dk_27 (dk_at dksX7_heirOf_0 17 rfl rfl)
theorem dX7_heirOf_18 : decode cX7_heirOf 18 = .ok (.if_icmp .eq 47, 3) := dk_159 0 47 (dk_at dksX7_heirOf_0 18 rfl rfl)
theorem dX7_heirOf_21 : decode cX7_heirOf 21 = .ok (.aload_n 0, 1) := dk_42 (dk_at dksX7_heirOf_0 21 rfl rfl)
theorem dX7_heirOf_22 : decode cX7_heirOf 22 = .ok (.iload_n 3, 1) := dk_29 (dk_at dksX7_heirOf_0 22 rfl rfl)
theorem dX7_heirOf_23 : decode cX7_heirOf 23 = .ok (.invokevirtual 294, 3) := dk_182 1 38 (dk_at dksX7_heirOf_1 0 rfl rfl)
theorem dX7_heirOf_26 : decode cX7_heirOf 26 = .ok (.ifCond .eq 39, 3) := dk_153 0 39 (dk_at dksX7_heirOf_1 3 rfl rfl)
theorem dX7_heirOf_29 : decode cX7_heirOf 29 = .ok (.aload_n 0, 1) := dk_42 (dk_at dksX7_heirOf_1 6 rfl rfl)
theorem dX7_heirOf_30 : decode cX7_heirOf 30 = .ok (.iload_n 3, 1) := dk_29 (dk_at dksX7_heirOf_1 7 rfl rfl)
theorem dX7_heirOf_31 : decode cX7_heirOf 31 = .ok (.iload_n 1, 1) := dk_27 (dk_at dksX7_heirOf_1 8 rfl rfl)
theorem dX7_heirOf_32 : decode cX7_heirOf 32 = .ok (.invokevirtual 297, 3) := dk_182 1 41 (dk_at dksX7_heirOf_1 9 rfl rfl)
theorem dX7_heirOf_35 : decode cX7_heirOf 35 = .ok (.iconst (-1), 1) := dk_2 (dk_at dksX7_heirOf_1 12 rfl rfl)
theorem dX7_heirOf_36 : decode cX7_heirOf 36 = .ok (.if_icmp .ne 6, 3) := dk_160 0 6 (dk_at dksX7_heirOf_1 13 rfl rfl)
theorem dX7_heirOf_39 : decode cX7_heirOf 39 = .ok (.goto 26, 3) := dk_167 0 26 (dk_at dksX7_heirOf_1 16 rfl rfl)
theorem dX7_heirOf_42 : decode cX7_heirOf 42 = .ok (.iload_n 2, 1) := dk_28 (dk_at dksX7_heirOf_1 19 rfl rfl)
theorem dX7_heirOf_43 : decode cX7_heirOf 43 = .ok (.bipush (-2), 2) := dk_16 254 (dk_at dksX7_heirOf_1 20 rfl rfl)
theorem dX7_heirOf_45 : decode cX7_heirOf 45 = .ok (.if_icmp .eq 18, 3) := dk_159 0 18 (dk_at dksX7_heirOf_2 0 rfl rfl)
theorem dX7_heirOf_48 : decode cX7_heirOf 48 = .ok (.aload_n 0, 1) := dk_42 (dk_at dksX7_heirOf_2 3 rfl rfl)
theorem dX7_heirOf_49 : decode cX7_heirOf 49 = .ok (.iload_n 3, 1) := dk_29 (dk_at dksX7_heirOf_2 4 rfl rfl)
theorem dX7_heirOf_50 : decode cX7_heirOf 50 = .ok (.iload_n 1, 1) := dk_27 (dk_at dksX7_heirOf_2 5 rfl rfl)
theorem dX7_heirOf_51 : decode cX7_heirOf 51 = .ok (.invokevirtual 297, 3) := dk_182 1 41 (dk_at dksX7_heirOf_2 6 rfl rfl)
theorem dX7_heirOf_54 : decode cX7_heirOf 54 = .ok (.aload_n 0, 1) := dk_42 (dk_at dksX7_heirOf_2 9 rfl rfl)
theorem dX7_heirOf_55 : decode cX7_heirOf 55 = .ok (.iload_n 2, 1) := dk_28 (dk_at dksX7_heirOf_2 10 rfl rfl)
theorem dX7_heirOf_56 : decode cX7_heirOf 56 = .ok (.iload_n 1, 1) := dk_27 (dk_at dksX7_heirOf_2 11 rfl rfl)
theorem dX7_heirOf_57 : decode cX7_heirOf 57 = .ok (.invokevirtual 297, 3) := dk_182 1 41 (dk_at dksX7_heirOf_2 12 rfl rfl)
theorem dX7_heirOf_60 : decode cX7_heirOf 60 = .ok (.if_icmp .le 5, 3) := dk_164 0 5 (dk_at dksX7_heirOf_2 15 rfl rfl)
theorem dX7_heirOf_63 : decode cX7_heirOf 63 = .ok (.iload_n 3, 1) := dk_29 (dk_at dksX7_heirOf_2 18 rfl rfl)
theorem dX7_heirOf_64 : decode cX7_heirOf 64 = .ok (.istore_n 2, 1) := dk_61 (dk_at dksX7_heirOf_2 19 rfl rfl)
theorem dX7_heirOf_65 : decode cX7_heirOf 65 = .ok (.iinc 3 1, 3) := dk_132 3 1 (dk_at dksX7_heirOf_2 20 rfl rfl)
theorem dX7_heirOf_68 : decode cX7_heirOf 68 = .ok (.goto (-63), 3) := dk_167 255 193 (dk_at dksX7_heirOf_3 0 rfl rfl)
theorem dX7_heirOf_71 : decode cX7_heirOf 71 = .ok (.iload_n 2, 1) := dk_28 (dk_at dksX7_heirOf_3 3 rfl rfl)
theorem dX7_heirOf_72 : decode cX7_heirOf 72 = .ok (.ireturn, 1) := dk_172 (dk_at dksX7_heirOf_3 4 rfl rfl)
abbrev cX7_isLiving : ByteArray := prog_14_method_42_code
def yX7_isLiving : MethodName := ⟨RX7, "isLiving", "(I)Z"⟩
def dkwX7_isLiving_0 : List UInt8 := [42, 180, 0, 21, 16, 42, 46, 27, 184, 0, 235, 172]
abbrev dktX7_isLiving_0 : List UInt8 := dkwX7_isLiving_0 ++ []
theorem dksX7_isLiving_0 : cX7_isLiving.data.toList.drop 0 = dktX7_isLiving_0 := by decide +kernel
theorem dX7_isLiving_0 : decode cX7_isLiving 0 = .ok (.aload_n 0, 1) := dk_42 (dk_at dksX7_isLiving_0 0 rfl rfl)
theorem dX7_isLiving_1 : decode cX7_isLiving 1 = .ok (.getfield 21, 3) := dk_180 0 21 (dk_at dksX7_isLiving_0 1 rfl rfl)
theorem dX7_isLiving_4 : decode cX7_isLiving 4 = .ok (.bipush 42, 2) := dk_16 42 (dk_at dksX7_isLiving_0 4 rfl rfl)
theorem dX7_isLiving_6 : decode cX7_isLiving 6 = .ok (.iaload, 1) := dk_46 (dk_at dksX7_isLiving_0 6 rfl rfl)
theorem dX7_isLiving_7 : decode cX7_isLiving 7 = .ok (.iload_n 1, 1) := dk_27 (dk_at dksX7_isLiving_0 7 rfl rfl)
theorem dX7_isLiving_8 : decode cX7_isLiving 8 = .ok (.invokestatic 235, 3) := dk_184 0 235 (dk_at dksX7_isLiving_0 8 rfl rfl)
theorem dX7_isLiving_11 : decode cX7_isLiving 11 = .ok (.ireturn, 1) := dk_172 (dk_at dksX7_isLiving_0 11 rfl rfl)
abbrev cX7_asked : ByteArray := prog_14_method_43_code
def yX7_asked : MethodName := ⟨RX7, "asked", "(II)I"⟩
def dkwX7_asked_0 : List UInt8 := [42, 180, 0, 21, 16, 6, 16, 6, 27, 104, 96, 28, 96, 46, 172]
abbrev dktX7_asked_0 : List UInt8 := dkwX7_asked_0 ++ []
theorem dksX7_asked_0 : cX7_asked.data.toList.drop 0 = dktX7_asked_0 := by decide +kernel
theorem dX7_asked_0 : decode cX7_asked 0 = .ok (.aload_n 0, 1) := dk_42 (dk_at dksX7_asked_0 0 rfl rfl)
theorem dX7_asked_1 : decode cX7_asked 1 = .ok (.getfield 21, 3) := dk_180 0 21 (dk_at dksX7_asked_0 1 rfl rfl)
theorem dX7_asked_4 : decode cX7_asked 4 = .ok (.bipush 6, 2) := dk_16 6 (dk_at dksX7_asked_0 4 rfl rfl)
theorem dX7_asked_6 : decode cX7_asked 6 = .ok (.bipush 6, 2) := dk_16 6 (dk_at dksX7_asked_0 6 rfl rfl)
theorem dX7_asked_8 : decode cX7_asked 8 = .ok (.iload_n 1, 1) := dk_27 (dk_at dksX7_asked_0 8 rfl rfl)
theorem dX7_asked_9 : decode cX7_asked 9 = .ok (.imul, 1) := dk_104 (dk_at dksX7_asked_0 9 rfl rfl)
theorem dX7_asked_10 : decode cX7_asked 10 = .ok (.iadd, 1) := dk_96 (dk_at dksX7_asked_0 10 rfl rfl)
theorem dX7_asked_11 : decode cX7_asked 11 = .ok (.iload_n 2, 1) := dk_28 (dk_at dksX7_asked_0 11 rfl rfl)
theorem dX7_asked_12 : decode cX7_asked 12 = .ok (.iadd, 1) := dk_96 (dk_at dksX7_asked_0 12 rfl rfl)
theorem dX7_asked_13 : decode cX7_asked 13 = .ok (.iaload, 1) := dk_46 (dk_at dksX7_asked_0 13 rfl rfl)
theorem dX7_asked_14 : decode cX7_asked 14 = .ok (.ireturn, 1) := dk_172 (dk_at dksX7_asked_0 14 rfl rfl)
abbrev cX7_heirTo : ByteArray := prog_14_method_58_code
def yX7_heirTo : MethodName := ⟨RX7, "heirTo", "(I)I"⟩
def dkwX7_heirTo_1 : List UInt8 := [42, 27, 182, 1, 79, 182, 0, 61, 172]
abbrev dktX7_heirTo_1 : List UInt8 := dkwX7_heirTo_1 ++ []
def dkwX7_heirTo_0 : List UInt8 := [42, 3, 181, 0, 51, 42, 27, 182, 1, 35, 154, 0, 9, 42, 4, 182, 0, 57, 172, 42, 182, 1, 76, 42]
abbrev dktX7_heirTo_0 : List UInt8 := dkwX7_heirTo_0 ++ dktX7_heirTo_1
theorem dksX7_heirTo_0 : cX7_heirTo.data.toList.drop 0 = dktX7_heirTo_0 := by decide +kernel
theorem dksX7_heirTo_1 : cX7_heirTo.data.toList.drop 24 = dktX7_heirTo_1 := dk_seg dksX7_heirTo_0 24 rfl rfl
theorem dX7_heirTo_0 : decode cX7_heirTo 0 = .ok (.aload_n 0, 1) := dk_42 (dk_at dksX7_heirTo_0 0 rfl rfl)
theorem dX7_heirTo_1 : decode cX7_heirTo 1 = .ok (.iconst 0, 1) := dk_3 (dk_at dksX7_heirTo_0 1 rfl rfl)
theorem dX7_heirTo_2 : decode cX7_heirTo 2 = .ok (.putfield 51, 3) := dk_181 0 51 (dk_at dksX7_heirTo_0 2 rfl rfl)
theorem dX7_heirTo_5 : decode cX7_heirTo 5 = .ok (.aload_n 0, 1) := dk_42 (dk_at dksX7_heirTo_0 5 rfl rfl)
theorem dX7_heirTo_6 : decode cX7_heirTo 6 = .ok (.iload_n 1, 1) := dk_27 (dk_at dksX7_heirTo_0 6 rfl rfl)
theorem dX7_heirTo_7 : decode cX7_heirTo 7 = .ok (.invokevirtual 291, 3) := dk_182 1 35 (dk_at dksX7_heirTo_0 7 rfl rfl)
theorem dX7_heirTo_10 : decode cX7_heirTo 10 = .ok (.ifCond .ne 9, 3) := dk_154 0 9 (dk_at dksX7_heirTo_0 10 rfl rfl)
theorem dX7_heirTo_13 : decode cX7_heirTo 13 = .ok (.aload_n 0, 1) := dk_42 (dk_at dksX7_heirTo_0 13 rfl rfl)
theorem dX7_heirTo_14 : decode cX7_heirTo 14 = .ok (.iconst 1, 1) := dk_4 (dk_at dksX7_heirTo_0 14 rfl rfl)
theorem dX7_heirTo_15 : decode cX7_heirTo 15 = .ok (.invokevirtual 57, 3) := dk_182 0 57 (dk_at dksX7_heirTo_0 15 rfl rfl)
theorem dX7_heirTo_18 : decode cX7_heirTo 18 = .ok (.ireturn, 1) := dk_172 (dk_at dksX7_heirTo_0 18 rfl rfl)
theorem dX7_heirTo_19 : decode cX7_heirTo 19 = .ok (.aload_n 0, 1) := dk_42 (dk_at dksX7_heirTo_0 19 rfl rfl)
theorem dX7_heirTo_20 : decode cX7_heirTo 20 = .ok (.invokevirtual 332, 3) := dk_182 1 76 (dk_at dksX7_heirTo_0 20 rfl rfl)
theorem dX7_heirTo_23 : decode cX7_heirTo 23 = .ok (.aload_n 0, 1) := dk_42 (dk_at dksX7_heirTo_0 23 rfl rfl)
theorem dX7_heirTo_24 : decode cX7_heirTo 24 = .ok (.aload_n 0, 1) := dk_42 (dk_at dksX7_heirTo_1 0 rfl rfl)
theorem dX7_heirTo_25 : decode cX7_heirTo 25 = .ok (.iload_n 1, 1) := dk_27 (dk_at dksX7_heirTo_1 1 rfl rfl)
theorem dX7_heirTo_26 : decode cX7_heirTo 26 = .ok (.invokevirtual 335, 3) := dk_182 1 79 (dk_at dksX7_heirTo_1 2 rfl rfl)
theorem dX7_heirTo_29 : decode cX7_heirTo 29 = .ok (.invokevirtual 61, 3) := dk_182 0 61 (dk_at dksX7_heirTo_1 5 rfl rfl)
theorem dX7_heirTo_32 : decode cX7_heirTo 32 = .ok (.ireturn, 1) := dk_172 (dk_at dksX7_heirTo_1 8 rfl rfl)
abbrev cX7_worksWithHeirs : ByteArray := prog_14_method_49_code
def yX7_worksWithHeirs : MethodName := ⟨RX7, "worksWithHeirs", "()V"⟩
def dkwX7_worksWithHeirs_0 : List UInt8 := [42, 182, 1, 59, 42, 182, 1, 53, 177]
abbrev dktX7_worksWithHeirs_0 : List UInt8 := dkwX7_worksWithHeirs_0 ++ []
theorem dksX7_worksWithHeirs_0 : cX7_worksWithHeirs.data.toList.drop 0 = dktX7_worksWithHeirs_0 := by decide +kernel
theorem dX7_worksWithHeirs_0 : decode cX7_worksWithHeirs 0 = .ok (.aload_n 0, 1) := dk_42 (dk_at dksX7_worksWithHeirs_0 0 rfl rfl)
theorem dX7_worksWithHeirs_1 : decode cX7_worksWithHeirs 1 = .ok (.invokevirtual 315, 3) := dk_182 1 59 (dk_at dksX7_worksWithHeirs_0 1 rfl rfl)
theorem dX7_worksWithHeirs_4 : decode cX7_worksWithHeirs 4 = .ok (.aload_n 0, 1) := dk_42 (dk_at dksX7_worksWithHeirs_0 4 rfl rfl)
theorem dX7_worksWithHeirs_5 : decode cX7_worksWithHeirs 5 = .ok (.invokevirtual 309, 3) := dk_182 1 53 (dk_at dksX7_worksWithHeirs_0 5 rfl rfl)
theorem dX7_worksWithHeirs_8 : decode cX7_worksWithHeirs 8 = .ok (.return_, 1) := dk_177 (dk_at dksX7_worksWithHeirs_0 8 rfl rfl)
abbrev cX7_heirs : ByteArray := prog_14_method_45_code
def yX7_heirs : MethodName := ⟨RX7, "heirs", "()V"⟩
def dkwX7_heirs_1 : List UInt8 := [132, 1, 1, 167, 255, 231, 177]
abbrev dktX7_heirs_1 : List UInt8 := dkwX7_heirs_1 ++ []
def dkwX7_heirs_0 : List UInt8 := [3, 60, 27, 42, 180, 1, 24, 180, 0, 170, 162, 0, 20, 42, 180, 0, 30, 27, 42, 27, 182, 1, 44, 79]
abbrev dktX7_heirs_0 : List UInt8 := dkwX7_heirs_0 ++ dktX7_heirs_1
theorem dksX7_heirs_0 : cX7_heirs.data.toList.drop 0 = dktX7_heirs_0 := by decide +kernel
theorem dksX7_heirs_1 : cX7_heirs.data.toList.drop 24 = dktX7_heirs_1 := dk_seg dksX7_heirs_0 24 rfl rfl
theorem dX7_heirs_0 : decode cX7_heirs 0 = .ok (.iconst 0, 1) := dk_3 (dk_at dksX7_heirs_0 0 rfl rfl)
theorem dX7_heirs_1 : decode cX7_heirs 1 = .ok (.istore_n 1, 1) := dk_60 (dk_at dksX7_heirs_0 1 rfl rfl)
theorem dX7_heirs_2 : decode cX7_heirs 2 = .ok (.iload_n 1, 1) := dk_27 (dk_at dksX7_heirs_0 2 rfl rfl)
theorem dX7_heirs_3 : decode cX7_heirs 3 = .ok (.aload_n 0, 1) := dk_42 (dk_at dksX7_heirs_0 3 rfl rfl)
theorem dX7_heirs_4 : decode cX7_heirs 4 = .ok (.getfield 280, 3) := dk_180 1 24 (dk_at dksX7_heirs_0 4 rfl rfl)
theorem dX7_heirs_7 : decode cX7_heirs 7 = .ok (.getfield 170, 3) := dk_180 0 170 (dk_at dksX7_heirs_0 7 rfl rfl)
theorem dX7_heirs_10 : decode cX7_heirs 10 = .ok (.if_icmp .ge 20, 3) := dk_162 0 20 (dk_at dksX7_heirs_0 10 rfl rfl)
theorem dX7_heirs_13 : decode cX7_heirs 13 = .ok (.aload_n 0, 1) := dk_42 (dk_at dksX7_heirs_0 13 rfl rfl)
theorem dX7_heirs_14 : decode cX7_heirs 14 = .ok (.getfield 30, 3) := dk_180 0 30 (dk_at dksX7_heirs_0 14 rfl rfl)
theorem dX7_heirs_17 : decode cX7_heirs 17 = .ok (.iload_n 1, 1) := dk_27 (dk_at dksX7_heirs_0 17 rfl rfl)
theorem dX7_heirs_18 : decode cX7_heirs 18 = .ok (.aload_n 0, 1) := dk_42 (dk_at dksX7_heirs_0 18 rfl rfl)
theorem dX7_heirs_19 : decode cX7_heirs 19 = .ok (.iload_n 1, 1) := dk_27 (dk_at dksX7_heirs_0 19 rfl rfl)
theorem dX7_heirs_20 : decode cX7_heirs 20 = .ok (.invokevirtual 300, 3) := dk_182 1 44 (dk_at dksX7_heirs_0 20 rfl rfl)
theorem dX7_heirs_23 : decode cX7_heirs 23 = .ok (.iastore, 1) := dk_79 (dk_at dksX7_heirs_0 23 rfl rfl)
theorem dX7_heirs_24 : decode cX7_heirs 24 = .ok (.iinc 1 1, 3) := dk_132 1 1 (dk_at dksX7_heirs_1 0 rfl rfl)
theorem dX7_heirs_27 : decode cX7_heirs 27 = .ok (.goto (-25), 3) := dk_167 255 231 (dk_at dksX7_heirs_1 3 rfl rfl)
theorem dX7_heirs_30 : decode cX7_heirs 30 = .ok (.return_, 1) := dk_177 (dk_at dksX7_heirs_1 6 rfl rfl)
abbrev cX7_inheritsOf : ByteArray := prog_14_method_57_code
def yX7_inheritsOf : MethodName := ⟨RX7, "inheritsOf", "(I)I"⟩
def dkwX7_inheritsOf_2 : List UInt8 := [167, 255, 214, 28, 172]
abbrev dktX7_inheritsOf_2 : List UInt8 := dkwX7_inheritsOf_2 ++ []
def dkwX7_inheritsOf_1 : List UInt8 := [42, 180, 0, 30, 29, 46, 27, 160, 0, 9, 4, 29, 120, 167, 0, 4, 3, 128, 61, 132, 3, 1]
abbrev dktX7_inheritsOf_1 : List UInt8 := dkwX7_inheritsOf_1 ++ dktX7_inheritsOf_2
def dkwX7_inheritsOf_0 : List UInt8 := [3, 61, 3, 62, 29, 42, 180, 1, 24, 180, 0, 170, 162, 0, 37, 28, 42, 29, 182, 1, 38, 153, 0, 19]
abbrev dktX7_inheritsOf_0 : List UInt8 := dkwX7_inheritsOf_0 ++ dktX7_inheritsOf_1
theorem dksX7_inheritsOf_0 : cX7_inheritsOf.data.toList.drop 0 = dktX7_inheritsOf_0 := by decide +kernel
theorem dksX7_inheritsOf_1 : cX7_inheritsOf.data.toList.drop 24 = dktX7_inheritsOf_1 := dk_seg dksX7_inheritsOf_0 24 rfl rfl
theorem dksX7_inheritsOf_2 : cX7_inheritsOf.data.toList.drop 46 = dktX7_inheritsOf_2 := dk_seg dksX7_inheritsOf_1 22 rfl rfl
theorem dX7_inheritsOf_0 : decode cX7_inheritsOf 0 = .ok (.iconst 0, 1) := dk_3 (dk_at dksX7_inheritsOf_0 0 rfl rfl)
theorem dX7_inheritsOf_1 : decode cX7_inheritsOf 1 = .ok (.istore_n 2, 1) := dk_61 (dk_at dksX7_inheritsOf_0 1 rfl rfl)
theorem dX7_inheritsOf_2 : decode cX7_inheritsOf 2 = .ok (.iconst 0, 1) := dk_3 (dk_at dksX7_inheritsOf_0 2 rfl rfl)
theorem dX7_inheritsOf_3 : decode cX7_inheritsOf 3 = .ok (.istore_n 3, 1) := dk_62 (dk_at dksX7_inheritsOf_0 3 rfl rfl)
theorem dX7_inheritsOf_4 : decode cX7_inheritsOf 4 = .ok (.iload_n 3, 1) := dk_29 (dk_at dksX7_inheritsOf_0 4 rfl rfl)
theorem dX7_inheritsOf_5 : decode cX7_inheritsOf 5 = .ok (.aload_n 0, 1) := dk_42 (dk_at dksX7_inheritsOf_0 5 rfl rfl)
theorem dX7_inheritsOf_6 : decode cX7_inheritsOf 6 = .ok (.getfield 280, 3) := dk_180 1 24 (dk_at dksX7_inheritsOf_0 6 rfl rfl)
theorem dX7_inheritsOf_9 : decode cX7_inheritsOf 9 = .ok (.getfield 170, 3) := dk_180 0 170 (dk_at dksX7_inheritsOf_0 9 rfl rfl)
theorem dX7_inheritsOf_12 : decode cX7_inheritsOf 12 = .ok (.if_icmp .ge 37, 3) := dk_162 0 37 (dk_at dksX7_inheritsOf_0 12 rfl rfl)
theorem dX7_inheritsOf_15 : decode cX7_inheritsOf 15 = .ok (.iload_n 2, 1) := dk_28 (dk_at dksX7_inheritsOf_0 15 rfl rfl)
theorem dX7_inheritsOf_16 : decode cX7_inheritsOf 16 = .ok (.aload_n 0, 1) := dk_42 (dk_at dksX7_inheritsOf_0 16 rfl rfl)
theorem dX7_inheritsOf_17 : decode cX7_inheritsOf 17 = .ok (.iload_n 3, 1) := dk_29 (dk_at dksX7_inheritsOf_0 17 rfl rfl)
theorem dX7_inheritsOf_18 : decode cX7_inheritsOf 18 = .ok (.invokevirtual 294, 3) := dk_182 1 38 (dk_at dksX7_inheritsOf_0 18 rfl rfl)
theorem dX7_inheritsOf_21 : decode cX7_inheritsOf 21 = .ok (.ifCond .eq 19, 3) := dk_153 0 19 (dk_at dksX7_inheritsOf_0 21 rfl rfl)
theorem dX7_inheritsOf_24 : decode cX7_inheritsOf 24 = .ok (.aload_n 0, 1) := dk_42 (dk_at dksX7_inheritsOf_1 0 rfl rfl)
theorem dX7_inheritsOf_25 : decode cX7_inheritsOf 25 = .ok (.getfield 30, 3) := dk_180 0 30 (dk_at dksX7_inheritsOf_1 1 rfl rfl)
theorem dX7_inheritsOf_28 : decode cX7_inheritsOf 28 = .ok (.iload_n 3, 1) := dk_29 (dk_at dksX7_inheritsOf_1 4 rfl rfl)
theorem dX7_inheritsOf_29 : decode cX7_inheritsOf 29 = .ok (.iaload, 1) := dk_46 (dk_at dksX7_inheritsOf_1 5 rfl rfl)
theorem dX7_inheritsOf_30 : decode cX7_inheritsOf 30 = .ok (.iload_n 1, 1) := dk_27 (dk_at dksX7_inheritsOf_1 6 rfl rfl)
theorem dX7_inheritsOf_31 : decode cX7_inheritsOf 31 = .ok (.if_icmp .ne 9, 3) := dk_160 0 9 (dk_at dksX7_inheritsOf_1 7 rfl rfl)
theorem dX7_inheritsOf_34 : decode cX7_inheritsOf 34 = .ok (.iconst 1, 1) := dk_4 (dk_at dksX7_inheritsOf_1 10 rfl rfl)
theorem dX7_inheritsOf_35 : decode cX7_inheritsOf 35 = .ok (.iload_n 3, 1) := dk_29 (dk_at dksX7_inheritsOf_1 11 rfl rfl)
theorem dX7_inheritsOf_36 : decode cX7_inheritsOf 36 = .ok (.ishl, 1) := dk_120 (dk_at dksX7_inheritsOf_1 12 rfl rfl)
theorem dX7_inheritsOf_37 : decode cX7_inheritsOf 37 = .ok (.goto 4, 3) := dk_167 0 4 (dk_at dksX7_inheritsOf_1 13 rfl rfl)
theorem dX7_inheritsOf_40 : decode cX7_inheritsOf 40 = .ok (.iconst 0, 1) := dk_3 (dk_at dksX7_inheritsOf_1 16 rfl rfl)
theorem dX7_inheritsOf_41 : decode cX7_inheritsOf 41 = .ok (.ior, 1) := dk_128 (dk_at dksX7_inheritsOf_1 17 rfl rfl)
theorem dX7_inheritsOf_42 : decode cX7_inheritsOf 42 = .ok (.istore_n 2, 1) := dk_61 (dk_at dksX7_inheritsOf_1 18 rfl rfl)
theorem dX7_inheritsOf_43 : decode cX7_inheritsOf 43 = .ok (.iinc 3 1, 3) := dk_132 3 1 (dk_at dksX7_inheritsOf_1 19 rfl rfl)
theorem dX7_inheritsOf_46 : decode cX7_inheritsOf 46 = .ok (.goto (-42), 3) := dk_167 255 214 (dk_at dksX7_inheritsOf_2 0 rfl rfl)
theorem dX7_inheritsOf_49 : decode cX7_inheritsOf 49 = .ok (.iload_n 2, 1) := dk_28 (dk_at dksX7_inheritsOf_2 3 rfl rfl)
theorem dX7_inheritsOf_50 : decode cX7_inheritsOf 50 = .ok (.ireturn, 1) := dk_172 (dk_at dksX7_inheritsOf_2 4 rfl rfl)
abbrev cX7_hopes : ByteArray := prog_14_method_59_code
def yX7_hopes : MethodName := ⟨RX7, "hopes", "(I)I"⟩
def dkwX7_hopes_1 : List UInt8 := [182, 1, 76, 42, 42, 27, 182, 1, 79, 182, 1, 56, 42, 42, 180, 0, 33, 27, 46, 182, 0, 61, 172]
abbrev dktX7_hopes_1 : List UInt8 := dkwX7_hopes_1 ++ []
def dkwX7_hopes_0 : List UInt8 := [42, 3, 181, 0, 51, 42, 27, 182, 1, 73, 61, 28, 158, 0, 9, 42, 28, 182, 0, 57, 172, 42]
abbrev dktX7_hopes_0 : List UInt8 := dkwX7_hopes_0 ++ dktX7_hopes_1
theorem dksX7_hopes_0 : cX7_hopes.data.toList.drop 0 = dktX7_hopes_0 := by decide +kernel
theorem dksX7_hopes_1 : cX7_hopes.data.toList.drop 22 = dktX7_hopes_1 := dk_seg dksX7_hopes_0 22 rfl rfl
theorem dX7_hopes_0 : decode cX7_hopes 0 = .ok (.aload_n 0, 1) := dk_42 (dk_at dksX7_hopes_0 0 rfl rfl)
theorem dX7_hopes_1 : decode cX7_hopes 1 = .ok (.iconst 0, 1) := dk_3 (dk_at dksX7_hopes_0 1 rfl rfl)
theorem dX7_hopes_2 : decode cX7_hopes 2 = .ok (.putfield 51, 3) := dk_181 0 51 (dk_at dksX7_hopes_0 2 rfl rfl)
theorem dX7_hopes_5 : decode cX7_hopes 5 = .ok (.aload_n 0, 1) := dk_42 (dk_at dksX7_hopes_0 5 rfl rfl)
theorem dX7_hopes_6 : decode cX7_hopes 6 = .ok (.iload_n 1, 1) := dk_27 (dk_at dksX7_hopes_0 6 rfl rfl)
theorem dX7_hopes_7 : decode cX7_hopes 7 = .ok (.invokevirtual 329, 3) := dk_182 1 73 (dk_at dksX7_hopes_0 7 rfl rfl)
theorem dX7_hopes_10 : decode cX7_hopes 10 = .ok (.istore_n 2, 1) := dk_61 (dk_at dksX7_hopes_0 10 rfl rfl)
theorem dX7_hopes_11 : decode cX7_hopes 11 = .ok (.iload_n 2, 1) := dk_28 (dk_at dksX7_hopes_0 11 rfl rfl)
theorem dX7_hopes_12 : decode cX7_hopes 12 = .ok (.ifCond .le 9, 3) := dk_158 0 9 (dk_at dksX7_hopes_0 12 rfl rfl)
theorem dX7_hopes_15 : decode cX7_hopes 15 = .ok (.aload_n 0, 1) := dk_42 (dk_at dksX7_hopes_0 15 rfl rfl)
theorem dX7_hopes_16 : decode cX7_hopes 16 = .ok (.iload_n 2, 1) := dk_28 (dk_at dksX7_hopes_0 16 rfl rfl)
theorem dX7_hopes_17 : decode cX7_hopes 17 = .ok (.invokevirtual 57, 3) := dk_182 0 57 (dk_at dksX7_hopes_0 17 rfl rfl)
theorem dX7_hopes_20 : decode cX7_hopes 20 = .ok (.ireturn, 1) := dk_172 (dk_at dksX7_hopes_0 20 rfl rfl)
theorem dX7_hopes_21 : decode cX7_hopes 21 = .ok (.aload_n 0, 1) := dk_42 (dk_at dksX7_hopes_0 21 rfl rfl)
theorem dX7_hopes_22 : decode cX7_hopes 22 = .ok (.invokevirtual 332, 3) := dk_182 1 76 (dk_at dksX7_hopes_1 0 rfl rfl)
theorem dX7_hopes_25 : decode cX7_hopes 25 = .ok (.aload_n 0, 1) := dk_42 (dk_at dksX7_hopes_1 3 rfl rfl)
theorem dX7_hopes_26 : decode cX7_hopes 26 = .ok (.aload_n 0, 1) := dk_42 (dk_at dksX7_hopes_1 4 rfl rfl)
theorem dX7_hopes_27 : decode cX7_hopes 27 = .ok (.iload_n 1, 1) := dk_27 (dk_at dksX7_hopes_1 5 rfl rfl)
theorem dX7_hopes_28 : decode cX7_hopes 28 = .ok (.invokevirtual 335, 3) := dk_182 1 79 (dk_at dksX7_hopes_1 6 rfl rfl)
theorem dX7_hopes_31 : decode cX7_hopes 31 = .ok (.invokevirtual 312, 3) := dk_182 1 56 (dk_at dksX7_hopes_1 9 rfl rfl)
theorem dX7_hopes_34 : decode cX7_hopes 34 = .ok (.aload_n 0, 1) := dk_42 (dk_at dksX7_hopes_1 12 rfl rfl)
theorem dX7_hopes_35 : decode cX7_hopes 35 = .ok (.aload_n 0, 1) := dk_42 (dk_at dksX7_hopes_1 13 rfl rfl)
theorem dX7_hopes_36 : decode cX7_hopes 36 = .ok (.getfield 33, 3) := dk_180 0 33 (dk_at dksX7_hopes_1 14 rfl rfl)
theorem dX7_hopes_39 : decode cX7_hopes 39 = .ok (.iload_n 1, 1) := dk_27 (dk_at dksX7_hopes_1 17 rfl rfl)
theorem dX7_hopes_40 : decode cX7_hopes 40 = .ok (.iaload, 1) := dk_46 (dk_at dksX7_hopes_1 18 rfl rfl)
theorem dX7_hopes_41 : decode cX7_hopes 41 = .ok (.invokevirtual 61, 3) := dk_182 0 61 (dk_at dksX7_hopes_1 19 rfl rfl)
theorem dX7_hopes_44 : decode cX7_hopes 44 = .ok (.ireturn, 1) := dk_172 (dk_at dksX7_hopes_1 22 rfl rfl)
abbrev cX7_dying : ByteArray := prog_14_method_47_code
def yX7_dying : MethodName := ⟨RX7, "dying", "(I)V"⟩
def dkwX7_dying_5 : List UInt8 := [180, 0, 21, 28, 46, 96, 79, 132, 2, 1, 167, 255, 185, 177]
abbrev dktX7_dying_5 : List UInt8 := dkwX7_dying_5 ++ []
def dkwX7_dying_4 : List UInt8 := [180, 1, 47, 42, 180, 0, 21, 28, 46, 96, 181, 1, 47, 167, 0, 18, 42, 180, 0, 33, 29, 92, 46, 42]
abbrev dktX7_dying_4 : List UInt8 := dkwX7_dying_4 ++ dktX7_dying_5
def dkwX7_dying_3 : List UInt8 := [184, 0, 235, 154, 0, 6, 167, 0, 49, 42, 28, 27, 182, 1, 50, 62, 29, 16, 254, 160, 0, 21, 42, 89]
abbrev dktX7_dying_3 : List UInt8 := dkwX7_dying_3 ++ dktX7_dying_4
def dkwX7_dying_2 : List UInt8 := [46, 79, 132, 2, 1, 167, 255, 210, 3, 61, 28, 42, 180, 1, 24, 180, 0, 170, 162, 0, 66, 27, 28]
abbrev dktX7_dying_2 : List UInt8 := dkwX7_dying_2 ++ dktX7_dying_3
def dkwX7_dying_1 : List UInt8 := [28, 184, 0, 235, 154, 0, 11, 42, 28, 182, 1, 38, 154, 0, 7, 3, 167, 0, 9, 42, 180, 0, 21, 28]
abbrev dktX7_dying_1 : List UInt8 := dkwX7_dying_1 ++ dktX7_dying_2
def dkwX7_dying_0 : List UInt8 := [42, 3, 181, 1, 47, 3, 61, 28, 42, 180, 1, 24, 180, 0, 170, 162, 0, 41, 42, 180, 0, 33, 28, 27]
abbrev dktX7_dying_0 : List UInt8 := dkwX7_dying_0 ++ dktX7_dying_1
theorem dksX7_dying_0 : cX7_dying.data.toList.drop 0 = dktX7_dying_0 := by decide +kernel
theorem dksX7_dying_1 : cX7_dying.data.toList.drop 24 = dktX7_dying_1 := dk_seg dksX7_dying_0 24 rfl rfl
theorem dksX7_dying_2 : cX7_dying.data.toList.drop 48 = dktX7_dying_2 := dk_seg dksX7_dying_1 24 rfl rfl
theorem dksX7_dying_3 : cX7_dying.data.toList.drop 71 = dktX7_dying_3 := dk_seg dksX7_dying_2 23 rfl rfl
theorem dksX7_dying_4 : cX7_dying.data.toList.drop 95 = dktX7_dying_4 := dk_seg dksX7_dying_3 24 rfl rfl
theorem dksX7_dying_5 : cX7_dying.data.toList.drop 119 = dktX7_dying_5 := dk_seg dksX7_dying_4 24 rfl rfl
theorem dX7_dying_0 : decode cX7_dying 0 = .ok (.aload_n 0, 1) := dk_42 (dk_at dksX7_dying_0 0 rfl rfl)
theorem dX7_dying_1 : decode cX7_dying 1 = .ok (.iconst 0, 1) := dk_3 (dk_at dksX7_dying_0 1 rfl rfl)
theorem dX7_dying_2 : decode cX7_dying 2 = .ok (.putfield 303, 3) := dk_181 1 47 (dk_at dksX7_dying_0 2 rfl rfl)
theorem dX7_dying_5 : decode cX7_dying 5 = .ok (.iconst 0, 1) := dk_3 (dk_at dksX7_dying_0 5 rfl rfl)
theorem dX7_dying_6 : decode cX7_dying 6 = .ok (.istore_n 2, 1) := dk_61 (dk_at dksX7_dying_0 6 rfl rfl)
theorem dX7_dying_7 : decode cX7_dying 7 = .ok (.iload_n 2, 1) := dk_28 (dk_at dksX7_dying_0 7 rfl rfl)
theorem dX7_dying_8 : decode cX7_dying 8 = .ok (.aload_n 0, 1) := dk_42 (dk_at dksX7_dying_0 8 rfl rfl)
theorem dX7_dying_9 : decode cX7_dying 9 = .ok (.getfield 280, 3) := dk_180 1 24 (dk_at dksX7_dying_0 9 rfl rfl)
theorem dX7_dying_12 : decode cX7_dying 12 = .ok (.getfield 170, 3) := dk_180 0 170 (dk_at dksX7_dying_0 12 rfl rfl)
theorem dX7_dying_15 : decode cX7_dying 15 = .ok (.if_icmp .ge 41, 3) := dk_162 0 41 (dk_at dksX7_dying_0 15 rfl rfl)
theorem dX7_dying_18 : decode cX7_dying 18 = .ok (.aload_n 0, 1) := dk_42 (dk_at dksX7_dying_0 18 rfl rfl)
theorem dX7_dying_19 : decode cX7_dying 19 = .ok (.getfield 33, 3) := dk_180 0 33 (dk_at dksX7_dying_0 19 rfl rfl)
theorem dX7_dying_22 : decode cX7_dying 22 = .ok (.iload_n 2, 1) := dk_28 (dk_at dksX7_dying_0 22 rfl rfl)
theorem dX7_dying_23 : decode cX7_dying 23 = .ok (.iload_n 1, 1) := dk_27 (dk_at dksX7_dying_0 23 rfl rfl)
theorem dX7_dying_24 : decode cX7_dying 24 = .ok (.iload_n 2, 1) := dk_28 (dk_at dksX7_dying_1 0 rfl rfl)
theorem dX7_dying_25 : decode cX7_dying 25 = .ok (.invokestatic 235, 3) := dk_184 0 235 (dk_at dksX7_dying_1 1 rfl rfl)
theorem dX7_dying_28 : decode cX7_dying 28 = .ok (.ifCond .ne 11, 3) := dk_154 0 11 (dk_at dksX7_dying_1 4 rfl rfl)
theorem dX7_dying_31 : decode cX7_dying 31 = .ok (.aload_n 0, 1) := dk_42 (dk_at dksX7_dying_1 7 rfl rfl)
theorem dX7_dying_32 : decode cX7_dying 32 = .ok (.iload_n 2, 1) := dk_28 (dk_at dksX7_dying_1 8 rfl rfl)
theorem dX7_dying_33 : decode cX7_dying 33 = .ok (.invokevirtual 294, 3) := dk_182 1 38 (dk_at dksX7_dying_1 9 rfl rfl)
theorem dX7_dying_36 : decode cX7_dying 36 = .ok (.ifCond .ne 7, 3) := dk_154 0 7 (dk_at dksX7_dying_1 12 rfl rfl)
theorem dX7_dying_39 : decode cX7_dying 39 = .ok (.iconst 0, 1) := dk_3 (dk_at dksX7_dying_1 15 rfl rfl)
theorem dX7_dying_40 : decode cX7_dying 40 = .ok (.goto 9, 3) := dk_167 0 9 (dk_at dksX7_dying_1 16 rfl rfl)
theorem dX7_dying_43 : decode cX7_dying 43 = .ok (.aload_n 0, 1) := dk_42 (dk_at dksX7_dying_1 19 rfl rfl)
theorem dX7_dying_44 : decode cX7_dying 44 = .ok (.getfield 21, 3) := dk_180 0 21 (dk_at dksX7_dying_1 20 rfl rfl)
theorem dX7_dying_47 : decode cX7_dying 47 = .ok (.iload_n 2, 1) := dk_28 (dk_at dksX7_dying_1 23 rfl rfl)
theorem dX7_dying_48 : decode cX7_dying 48 = .ok (.iaload, 1) := dk_46 (dk_at dksX7_dying_2 0 rfl rfl)
theorem dX7_dying_49 : decode cX7_dying 49 = .ok (.iastore, 1) := dk_79 (dk_at dksX7_dying_2 1 rfl rfl)
theorem dX7_dying_50 : decode cX7_dying 50 = .ok (.iinc 2 1, 3) := dk_132 2 1 (dk_at dksX7_dying_2 2 rfl rfl)
theorem dX7_dying_53 : decode cX7_dying 53 = .ok (.goto (-46), 3) := dk_167 255 210 (dk_at dksX7_dying_2 5 rfl rfl)
theorem dX7_dying_56 : decode cX7_dying 56 = .ok (.iconst 0, 1) := dk_3 (dk_at dksX7_dying_2 8 rfl rfl)
theorem dX7_dying_57 : decode cX7_dying 57 = .ok (.istore_n 2, 1) := dk_61 (dk_at dksX7_dying_2 9 rfl rfl)
theorem dX7_dying_58 : decode cX7_dying 58 = .ok (.iload_n 2, 1) := dk_28 (dk_at dksX7_dying_2 10 rfl rfl)
theorem dX7_dying_59 : decode cX7_dying 59 = .ok (.aload_n 0, 1) := dk_42 (dk_at dksX7_dying_2 11 rfl rfl)
theorem dX7_dying_60 : decode cX7_dying 60 = .ok (.getfield 280, 3) := dk_180 1 24 (dk_at dksX7_dying_2 12 rfl rfl)
theorem dX7_dying_63 : decode cX7_dying 63 = .ok (.getfield 170, 3) := dk_180 0 170 (dk_at dksX7_dying_2 15 rfl rfl)
theorem dX7_dying_66 : decode cX7_dying 66 = .ok (.if_icmp .ge 66, 3) := dk_162 0 66 (dk_at dksX7_dying_2 18 rfl rfl)
theorem dX7_dying_69 : decode cX7_dying 69 = .ok (.iload_n 1, 1) := dk_27 (dk_at dksX7_dying_2 21 rfl rfl)
theorem dX7_dying_70 : decode cX7_dying 70 = .ok (.iload_n 2, 1) := dk_28 (dk_at dksX7_dying_2 22 rfl rfl)
theorem dX7_dying_71 : decode cX7_dying 71 = .ok (.invokestatic 235, 3) := dk_184 0 235 (dk_at dksX7_dying_3 0 rfl rfl)
theorem dX7_dying_74 : decode cX7_dying 74 = .ok (.ifCond .ne 6, 3) := dk_154 0 6 (dk_at dksX7_dying_3 3 rfl rfl)
theorem dX7_dying_77 : decode cX7_dying 77 = .ok (.goto 49, 3) := dk_167 0 49 (dk_at dksX7_dying_3 6 rfl rfl)
theorem dX7_dying_80 : decode cX7_dying 80 = .ok (.aload_n 0, 1) := dk_42 (dk_at dksX7_dying_3 9 rfl rfl)
theorem dX7_dying_81 : decode cX7_dying 81 = .ok (.iload_n 2, 1) := dk_28 (dk_at dksX7_dying_3 10 rfl rfl)
theorem dX7_dying_82 : decode cX7_dying 82 = .ok (.iload_n 1, 1) := dk_27 (dk_at dksX7_dying_3 11 rfl rfl)
theorem dX7_dying_83 : decode cX7_dying 83 = .ok (.invokevirtual 306, 3) := dk_182 1 50 (dk_at dksX7_dying_3 12 rfl rfl)
theorem dX7_dying_86 : decode cX7_dying 86 = .ok (.istore_n 3, 1) := dk_62 (dk_at dksX7_dying_3 15 rfl rfl)
theorem dX7_dying_87 : decode cX7_dying 87 = .ok (.iload_n 3, 1) := dk_29 (dk_at dksX7_dying_3 16 rfl rfl)
theorem dX7_dying_88 : decode cX7_dying 88 = .ok (.bipush (-2), 2) := dk_16 254 (dk_at dksX7_dying_3 17 rfl rfl)
theorem dX7_dying_90 : decode cX7_dying 90 = .ok (.if_icmp .ne 21, 3) := dk_160 0 21 (dk_at dksX7_dying_3 19 rfl rfl)
theorem dX7_dying_93 : decode cX7_dying 93 = .ok (.aload_n 0, 1) := dk_42 (dk_at dksX7_dying_3 22 rfl rfl)
theorem dX7_dying_94 : decode cX7_dying 94 = .ok (.dup, 1) := dk_89 (dk_at dksX7_dying_3 23 rfl rfl)
theorem dX7_dying_95 : decode cX7_dying 95 = .ok (.getfield 303, 3) := dk_180 1 47 (dk_at dksX7_dying_4 0 rfl rfl)
theorem dX7_dying_98 : decode cX7_dying 98 = .ok (.aload_n 0, 1) := dk_42 (dk_at dksX7_dying_4 3 rfl rfl)
theorem dX7_dying_99 : decode cX7_dying 99 = .ok (.getfield 21, 3) := dk_180 0 21 (dk_at dksX7_dying_4 4 rfl rfl)
theorem dX7_dying_102 : decode cX7_dying 102 = .ok (.iload_n 2, 1) := dk_28 (dk_at dksX7_dying_4 7 rfl rfl)
theorem dX7_dying_103 : decode cX7_dying 103 = .ok (.iaload, 1) := dk_46 (dk_at dksX7_dying_4 8 rfl rfl)
theorem dX7_dying_104 : decode cX7_dying 104 = .ok (.iadd, 1) := dk_96 (dk_at dksX7_dying_4 9 rfl rfl)
theorem dX7_dying_105 : decode cX7_dying 105 = .ok (.putfield 303, 3) := dk_181 1 47 (dk_at dksX7_dying_4 10 rfl rfl)
theorem dX7_dying_108 : decode cX7_dying 108 = .ok (.goto 18, 3) := dk_167 0 18 (dk_at dksX7_dying_4 13 rfl rfl)
theorem dX7_dying_111 : decode cX7_dying 111 = .ok (.aload_n 0, 1) := dk_42 (dk_at dksX7_dying_4 16 rfl rfl)
theorem dX7_dying_112 : decode cX7_dying 112 = .ok (.getfield 33, 3) := dk_180 0 33 (dk_at dksX7_dying_4 17 rfl rfl)
theorem dX7_dying_115 : decode cX7_dying 115 = .ok (.iload_n 3, 1) := dk_29 (dk_at dksX7_dying_4 20 rfl rfl)
theorem dX7_dying_116 : decode cX7_dying 116 = .ok (.dup2, 1) := dk_92 (dk_at dksX7_dying_4 21 rfl rfl)
theorem dX7_dying_117 : decode cX7_dying 117 = .ok (.iaload, 1) := dk_46 (dk_at dksX7_dying_4 22 rfl rfl)
theorem dX7_dying_118 : decode cX7_dying 118 = .ok (.aload_n 0, 1) := dk_42 (dk_at dksX7_dying_4 23 rfl rfl)
theorem dX7_dying_119 : decode cX7_dying 119 = .ok (.getfield 21, 3) := dk_180 0 21 (dk_at dksX7_dying_5 0 rfl rfl)
theorem dX7_dying_122 : decode cX7_dying 122 = .ok (.iload_n 2, 1) := dk_28 (dk_at dksX7_dying_5 3 rfl rfl)
theorem dX7_dying_123 : decode cX7_dying 123 = .ok (.iaload, 1) := dk_46 (dk_at dksX7_dying_5 4 rfl rfl)
theorem dX7_dying_124 : decode cX7_dying 124 = .ok (.iadd, 1) := dk_96 (dk_at dksX7_dying_5 5 rfl rfl)
theorem dX7_dying_125 : decode cX7_dying 125 = .ok (.iastore, 1) := dk_79 (dk_at dksX7_dying_5 6 rfl rfl)
theorem dX7_dying_126 : decode cX7_dying 126 = .ok (.iinc 2 1, 3) := dk_132 2 1 (dk_at dksX7_dying_5 7 rfl rfl)
theorem dX7_dying_129 : decode cX7_dying 129 = .ok (.goto (-71), 3) := dk_167 255 185 (dk_at dksX7_dying_5 10 rfl rfl)
theorem dX7_dying_132 : decode cX7_dying 132 = .ok (.return_, 1) := dk_177 (dk_at dksX7_dying_5 13 rfl rfl)
abbrev cX7_goes : ByteArray := prog_14_method_46_code
def yX7_goes : MethodName := ⟨RX7, "goes", "(II)I"⟩
def dkwX7_goes_2 : List UInt8 := [54, 4, 167, 255, 212, 21, 4, 172]
abbrev dktX7_goes_2 : List UInt8 := dkwX7_goes_2 ++ []
def dkwX7_goes_1 : List UInt8 := [184, 0, 235, 153, 0, 6, 16, 254, 172, 29, 4, 21, 4, 120, 128, 62, 42, 180, 0, 30, 21, 4, 46]
abbrev dktX7_goes_1 : List UInt8 := dkwX7_goes_1 ++ dktX7_goes_2
def dkwX7_goes_0 : List UInt8 := [3, 62, 27, 54, 4, 21, 4, 16, 254, 159, 0, 43, 28, 21, 4, 184, 0, 235, 153, 0, 34, 29, 21, 4]
abbrev dktX7_goes_0 : List UInt8 := dkwX7_goes_0 ++ dktX7_goes_1
theorem dksX7_goes_0 : cX7_goes.data.toList.drop 0 = dktX7_goes_0 := by decide +kernel
theorem dksX7_goes_1 : cX7_goes.data.toList.drop 24 = dktX7_goes_1 := dk_seg dksX7_goes_0 24 rfl rfl
theorem dksX7_goes_2 : cX7_goes.data.toList.drop 47 = dktX7_goes_2 := dk_seg dksX7_goes_1 23 rfl rfl
theorem dX7_goes_0 : decode cX7_goes 0 = .ok (.iconst 0, 1) := dk_3 (dk_at dksX7_goes_0 0 rfl rfl)
theorem dX7_goes_1 : decode cX7_goes 1 = .ok (.istore_n 3, 1) := dk_62 (dk_at dksX7_goes_0 1 rfl rfl)
theorem dX7_goes_2 : decode cX7_goes 2 = .ok (.iload_n 1, 1) := dk_27 (dk_at dksX7_goes_0 2 rfl rfl)
theorem dX7_goes_3 : decode cX7_goes 3 = .ok (.istore 4, 2) := dk_54 4 (dk_at dksX7_goes_0 3 rfl rfl)
theorem dX7_goes_5 : decode cX7_goes 5 = .ok (.iload 4, 2) := dk_21 4 (dk_at dksX7_goes_0 5 rfl rfl)
theorem dX7_goes_7 : decode cX7_goes 7 = .ok (.bipush (-2), 2) := dk_16 254 (dk_at dksX7_goes_0 7 rfl rfl)
theorem dX7_goes_9 : decode cX7_goes 9 = .ok (.if_icmp .eq 43, 3) := dk_159 0 43 (dk_at dksX7_goes_0 9 rfl rfl)
theorem dX7_goes_12 : decode cX7_goes 12 = .ok (.iload_n 2, 1) := dk_28 (dk_at dksX7_goes_0 12 rfl rfl)
theorem dX7_goes_13 : decode cX7_goes 13 = .ok (.iload 4, 2) := dk_21 4 (dk_at dksX7_goes_0 13 rfl rfl)
theorem dX7_goes_15 : decode cX7_goes 15 = .ok (.invokestatic 235, 3) := dk_184 0 235 (dk_at dksX7_goes_0 15 rfl rfl)
theorem dX7_goes_18 : decode cX7_goes 18 = .ok (.ifCond .eq 34, 3) := dk_153 0 34 (dk_at dksX7_goes_0 18 rfl rfl)
theorem dX7_goes_21 : decode cX7_goes 21 = .ok (.iload_n 3, 1) := dk_29 (dk_at dksX7_goes_0 21 rfl rfl)
theorem dX7_goes_22 : decode cX7_goes 22 = .ok (.iload 4, 2) := dk_21 4 (dk_at dksX7_goes_0 22 rfl rfl)
theorem dX7_goes_24 : decode cX7_goes 24 = .ok (.invokestatic 235, 3) := dk_184 0 235 (dk_at dksX7_goes_1 0 rfl rfl)
theorem dX7_goes_27 : decode cX7_goes 27 = .ok (.ifCond .eq 6, 3) := dk_153 0 6 (dk_at dksX7_goes_1 3 rfl rfl)
theorem dX7_goes_30 : decode cX7_goes 30 = .ok (.bipush (-2), 2) := dk_16 254 (dk_at dksX7_goes_1 6 rfl rfl)
theorem dX7_goes_32 : decode cX7_goes 32 = .ok (.ireturn, 1) := dk_172 (dk_at dksX7_goes_1 8 rfl rfl)
theorem dX7_goes_33 : decode cX7_goes 33 = .ok (.iload_n 3, 1) := dk_29 (dk_at dksX7_goes_1 9 rfl rfl)
theorem dX7_goes_34 : decode cX7_goes 34 = .ok (.iconst 1, 1) := dk_4 (dk_at dksX7_goes_1 10 rfl rfl)
theorem dX7_goes_35 : decode cX7_goes 35 = .ok (.iload 4, 2) := dk_21 4 (dk_at dksX7_goes_1 11 rfl rfl)
theorem dX7_goes_37 : decode cX7_goes 37 = .ok (.ishl, 1) := dk_120 (dk_at dksX7_goes_1 13 rfl rfl)
theorem dX7_goes_38 : decode cX7_goes 38 = .ok (.ior, 1) := dk_128 (dk_at dksX7_goes_1 14 rfl rfl)
theorem dX7_goes_39 : decode cX7_goes 39 = .ok (.istore_n 3, 1) := dk_62 (dk_at dksX7_goes_1 15 rfl rfl)
theorem dX7_goes_40 : decode cX7_goes 40 = .ok (.aload_n 0, 1) := dk_42 (dk_at dksX7_goes_1 16 rfl rfl)
theorem dX7_goes_41 : decode cX7_goes 41 = .ok (.getfield 30, 3) := dk_180 0 30 (dk_at dksX7_goes_1 17 rfl rfl)
theorem dX7_goes_44 : decode cX7_goes 44 = .ok (.iload 4, 2) := dk_21 4 (dk_at dksX7_goes_1 20 rfl rfl)
theorem dX7_goes_46 : decode cX7_goes 46 = .ok (.iaload, 1) := dk_46 (dk_at dksX7_goes_1 22 rfl rfl)
theorem dX7_goes_47 : decode cX7_goes 47 = .ok (.istore 4, 2) := dk_54 4 (dk_at dksX7_goes_2 0 rfl rfl)
theorem dX7_goes_49 : decode cX7_goes 49 = .ok (.goto (-44), 3) := dk_167 255 212 (dk_at dksX7_goes_2 2 rfl rfl)
theorem dX7_goes_52 : decode cX7_goes 52 = .ok (.iload 4, 2) := dk_21 4 (dk_at dksX7_goes_2 5 rfl rfl)
theorem dX7_goes_54 : decode cX7_goes 54 = .ok (.ireturn, 1) := dk_172 (dk_at dksX7_goes_2 7 rfl rfl)
abbrev cX7_cat : ByteArray := prog_14_method_60_code
def yX7_cat : MethodName := ⟨RX7, "cat", "()I"⟩
def dkwX7_cat_1 : List UInt8 := [180, 0, 17, 16, 43, 46, 182, 0, 61, 172]
abbrev dktX7_cat_1 : List UInt8 := dkwX7_cat_1 ++ []
def dkwX7_cat_0 : List UInt8 := [42, 3, 181, 0, 51, 42, 180, 1, 24, 199, 0, 11, 42, 4, 182, 0, 57, 167, 0, 14, 42, 42]
abbrev dktX7_cat_0 : List UInt8 := dkwX7_cat_0 ++ dktX7_cat_1
theorem dksX7_cat_0 : cX7_cat.data.toList.drop 0 = dktX7_cat_0 := by decide +kernel
theorem dksX7_cat_1 : cX7_cat.data.toList.drop 22 = dktX7_cat_1 := dk_seg dksX7_cat_0 22 rfl rfl
theorem dX7_cat_0 : decode cX7_cat 0 = .ok (.aload_n 0, 1) := dk_42 (dk_at dksX7_cat_0 0 rfl rfl)
theorem dX7_cat_1 : decode cX7_cat 1 = .ok (.iconst 0, 1) := dk_3 (dk_at dksX7_cat_0 1 rfl rfl)
theorem dX7_cat_2 : decode cX7_cat 2 = .ok (.putfield 51, 3) := dk_181 0 51 (dk_at dksX7_cat_0 2 rfl rfl)
theorem dX7_cat_5 : decode cX7_cat 5 = .ok (.aload_n 0, 1) := dk_42 (dk_at dksX7_cat_0 5 rfl rfl)
theorem dX7_cat_6 : decode cX7_cat 6 = .ok (.getfield 280, 3) := dk_180 1 24 (dk_at dksX7_cat_0 6 rfl rfl)
theorem dX7_cat_9 : decode cX7_cat 9 = .ok (.ifnonnull 11, 3) := dk_199 0 11 (dk_at dksX7_cat_0 9 rfl rfl)
theorem dX7_cat_12 : decode cX7_cat 12 = .ok (.aload_n 0, 1) := dk_42 (dk_at dksX7_cat_0 12 rfl rfl)
theorem dX7_cat_13 : decode cX7_cat 13 = .ok (.iconst 1, 1) := dk_4 (dk_at dksX7_cat_0 13 rfl rfl)
theorem dX7_cat_14 : decode cX7_cat 14 = .ok (.invokevirtual 57, 3) := dk_182 0 57 (dk_at dksX7_cat_0 14 rfl rfl)
theorem dX7_cat_17 : decode cX7_cat 17 = .ok (.goto 14, 3) := dk_167 0 14 (dk_at dksX7_cat_0 17 rfl rfl)
theorem dX7_cat_20 : decode cX7_cat 20 = .ok (.aload_n 0, 1) := dk_42 (dk_at dksX7_cat_0 20 rfl rfl)
theorem dX7_cat_21 : decode cX7_cat 21 = .ok (.aload_n 0, 1) := dk_42 (dk_at dksX7_cat_0 21 rfl rfl)
theorem dX7_cat_22 : decode cX7_cat 22 = .ok (.getfield 17, 3) := dk_180 0 17 (dk_at dksX7_cat_1 0 rfl rfl)
theorem dX7_cat_25 : decode cX7_cat 25 = .ok (.bipush 43, 2) := dk_16 43 (dk_at dksX7_cat_1 3 rfl rfl)
theorem dX7_cat_27 : decode cX7_cat 27 = .ok (.iaload, 1) := dk_46 (dk_at dksX7_cat_1 5 rfl rfl)
theorem dX7_cat_28 : decode cX7_cat 28 = .ok (.invokevirtual 61, 3) := dk_182 0 61 (dk_at dksX7_cat_1 6 rfl rfl)
theorem dX7_cat_31 : decode cX7_cat 31 = .ok (.ireturn, 1) := dk_172 (dk_at dksX7_cat_1 9 rfl rfl)
abbrev cX7_richest : ByteArray := prog_14_method_61_code
def yX7_richest : MethodName := ⟨RX7, "richest", "()I"⟩
def dkwX7_richest_3 : List UInt8 := [132, 2, 1, 167, 255, 205, 42, 27, 182, 0, 61, 172]
abbrev dktX7_richest_3 : List UInt8 := dkwX7_richest_3 ++ []
def dkwX7_richest_2 : List UInt8 := [27, 16, 254, 159, 0, 18, 42, 180, 0, 17, 28, 46, 42, 180, 0, 17, 27, 46, 164, 0, 5, 28, 60]
abbrev dktX7_richest_2 : List UInt8 := dkwX7_richest_2 ++ dktX7_richest_3
def dkwX7_richest_1 : List UInt8 := [42, 180, 1, 24, 180, 0, 170, 162, 0, 46, 42, 180, 0, 17, 16, 42, 46, 28, 184, 0, 235, 153, 0, 26]
abbrev dktX7_richest_1 : List UInt8 := dkwX7_richest_1 ++ dktX7_richest_2
def dkwX7_richest_0 : List UInt8 := [42, 3, 181, 0, 51, 42, 180, 1, 24, 199, 0, 9, 42, 4, 182, 0, 57, 172, 16, 254, 60, 3, 61, 28]
abbrev dktX7_richest_0 : List UInt8 := dkwX7_richest_0 ++ dktX7_richest_1
theorem dksX7_richest_0 : cX7_richest.data.toList.drop 0 = dktX7_richest_0 := by decide +kernel
theorem dksX7_richest_1 : cX7_richest.data.toList.drop 24 = dktX7_richest_1 := dk_seg dksX7_richest_0 24 rfl rfl
theorem dksX7_richest_2 : cX7_richest.data.toList.drop 48 = dktX7_richest_2 := dk_seg dksX7_richest_1 24 rfl rfl
theorem dksX7_richest_3 : cX7_richest.data.toList.drop 71 = dktX7_richest_3 := dk_seg dksX7_richest_2 23 rfl rfl
theorem dX7_richest_0 : decode cX7_richest 0 = .ok (.aload_n 0, 1) := dk_42 (dk_at dksX7_richest_0 0 rfl rfl)
theorem dX7_richest_1 : decode cX7_richest 1 = .ok (.iconst 0, 1) := dk_3 (dk_at dksX7_richest_0 1 rfl rfl)
theorem dX7_richest_2 : decode cX7_richest 2 = .ok (.putfield 51, 3) := dk_181 0 51 (dk_at dksX7_richest_0 2 rfl rfl)
theorem dX7_richest_5 : decode cX7_richest 5 = .ok (.aload_n 0, 1) := dk_42 (dk_at dksX7_richest_0 5 rfl rfl)
theorem dX7_richest_6 : decode cX7_richest 6 = .ok (.getfield 280, 3) := dk_180 1 24 (dk_at dksX7_richest_0 6 rfl rfl)
theorem dX7_richest_9 : decode cX7_richest 9 = .ok (.ifnonnull 9, 3) := dk_199 0 9 (dk_at dksX7_richest_0 9 rfl rfl)
theorem dX7_richest_12 : decode cX7_richest 12 = .ok (.aload_n 0, 1) := dk_42 (dk_at dksX7_richest_0 12 rfl rfl)
theorem dX7_richest_13 : decode cX7_richest 13 = .ok (.iconst 1, 1) := dk_4 (dk_at dksX7_richest_0 13 rfl rfl)
theorem dX7_richest_14 : decode cX7_richest 14 = .ok (.invokevirtual 57, 3) := dk_182 0 57 (dk_at dksX7_richest_0 14 rfl rfl)
theorem dX7_richest_17 : decode cX7_richest 17 = .ok (.ireturn, 1) := dk_172 (dk_at dksX7_richest_0 17 rfl rfl)
theorem dX7_richest_18 : decode cX7_richest 18 = .ok (.bipush (-2), 2) := dk_16 254 (dk_at dksX7_richest_0 18 rfl rfl)
theorem dX7_richest_20 : decode cX7_richest 20 = .ok (.istore_n 1, 1) := dk_60 (dk_at dksX7_richest_0 20 rfl rfl)
theorem dX7_richest_21 : decode cX7_richest 21 = .ok (.iconst 0, 1) := dk_3 (dk_at dksX7_richest_0 21 rfl rfl)
theorem dX7_richest_22 : decode cX7_richest 22 = .ok (.istore_n 2, 1) := dk_61 (dk_at dksX7_richest_0 22 rfl rfl)
theorem dX7_richest_23 : decode cX7_richest 23 = .ok (.iload_n 2, 1) := dk_28 (dk_at dksX7_richest_0 23 rfl rfl)
theorem dX7_richest_24 : decode cX7_richest 24 = .ok (.aload_n 0, 1) := dk_42 (dk_at dksX7_richest_1 0 rfl rfl)
theorem dX7_richest_25 : decode cX7_richest 25 = .ok (.getfield 280, 3) := dk_180 1 24 (dk_at dksX7_richest_1 1 rfl rfl)
theorem dX7_richest_28 : decode cX7_richest 28 = .ok (.getfield 170, 3) := dk_180 0 170 (dk_at dksX7_richest_1 4 rfl rfl)
theorem dX7_richest_31 : decode cX7_richest 31 = .ok (.if_icmp .ge 46, 3) := dk_162 0 46 (dk_at dksX7_richest_1 7 rfl rfl)
theorem dX7_richest_34 : decode cX7_richest 34 = .ok (.aload_n 0, 1) := dk_42 (dk_at dksX7_richest_1 10 rfl rfl)
theorem dX7_richest_35 : decode cX7_richest 35 = .ok (.getfield 17, 3) := dk_180 0 17 (dk_at dksX7_richest_1 11 rfl rfl)
theorem dX7_richest_38 : decode cX7_richest 38 = .ok (.bipush 42, 2) := dk_16 42 (dk_at dksX7_richest_1 14 rfl rfl)
theorem dX7_richest_40 : decode cX7_richest 40 = .ok (.iaload, 1) := dk_46 (dk_at dksX7_richest_1 16 rfl rfl)
theorem dX7_richest_41 : decode cX7_richest 41 = .ok (.iload_n 2, 1) := dk_28 (dk_at dksX7_richest_1 17 rfl rfl)
theorem dX7_richest_42 : decode cX7_richest 42 = .ok (.invokestatic 235, 3) := dk_184 0 235 (dk_at dksX7_richest_1 18 rfl rfl)
theorem dX7_richest_45 : decode cX7_richest 45 = .ok (.ifCond .eq 26, 3) := dk_153 0 26 (dk_at dksX7_richest_1 21 rfl rfl)
theorem dX7_richest_48 : decode cX7_richest 48 = .ok (.iload_n 1, 1) := dk_27 (dk_at dksX7_richest_2 0 rfl rfl)
theorem dX7_richest_49 : decode cX7_richest 49 = .ok (.bipush (-2), 2) := dk_16 254 (dk_at dksX7_richest_2 1 rfl rfl)
theorem dX7_richest_51 : decode cX7_richest 51 = .ok (.if_icmp .eq 18, 3) := dk_159 0 18 (dk_at dksX7_richest_2 3 rfl rfl)
theorem dX7_richest_54 : decode cX7_richest 54 = .ok (.aload_n 0, 1) := dk_42 (dk_at dksX7_richest_2 6 rfl rfl)
theorem dX7_richest_55 : decode cX7_richest 55 = .ok (.getfield 17, 3) := dk_180 0 17 (dk_at dksX7_richest_2 7 rfl rfl)
theorem dX7_richest_58 : decode cX7_richest 58 = .ok (.iload_n 2, 1) := dk_28 (dk_at dksX7_richest_2 10 rfl rfl)
theorem dX7_richest_59 : decode cX7_richest 59 = .ok (.iaload, 1) := dk_46 (dk_at dksX7_richest_2 11 rfl rfl)
theorem dX7_richest_60 : decode cX7_richest 60 = .ok (.aload_n 0, 1) := dk_42 (dk_at dksX7_richest_2 12 rfl rfl)
theorem dX7_richest_61 : decode cX7_richest 61 = .ok (.getfield 17, 3) := dk_180 0 17 (dk_at dksX7_richest_2 13 rfl rfl)
theorem dX7_richest_64 : decode cX7_richest 64 = .ok (.iload_n 1, 1) := dk_27 (dk_at dksX7_richest_2 16 rfl rfl)
theorem dX7_richest_65 : decode cX7_richest 65 = .ok (.iaload, 1) := dk_46 (dk_at dksX7_richest_2 17 rfl rfl)
theorem dX7_richest_66 : decode cX7_richest 66 = .ok (.if_icmp .le 5, 3) := dk_164 0 5 (dk_at dksX7_richest_2 18 rfl rfl)
theorem dX7_richest_69 : decode cX7_richest 69 = .ok (.iload_n 2, 1) := dk_28 (dk_at dksX7_richest_2 21 rfl rfl)
theorem dX7_richest_70 : decode cX7_richest 70 = .ok (.istore_n 1, 1) := dk_60 (dk_at dksX7_richest_2 22 rfl rfl)
theorem dX7_richest_71 : decode cX7_richest 71 = .ok (.iinc 2 1, 3) := dk_132 2 1 (dk_at dksX7_richest_3 0 rfl rfl)
theorem dX7_richest_74 : decode cX7_richest 74 = .ok (.goto (-51), 3) := dk_167 255 205 (dk_at dksX7_richest_3 3 rfl rfl)
theorem dX7_richest_77 : decode cX7_richest 77 = .ok (.aload_n 0, 1) := dk_42 (dk_at dksX7_richest_3 6 rfl rfl)
theorem dX7_richest_78 : decode cX7_richest 78 = .ok (.iload_n 1, 1) := dk_27 (dk_at dksX7_richest_3 7 rfl rfl)
theorem dX7_richest_79 : decode cX7_richest 79 = .ok (.invokevirtual 61, 3) := dk_182 0 61 (dk_at dksX7_richest_3 8 rfl rfl)
theorem dX7_richest_82 : decode cX7_richest 82 = .ok (.ireturn, 1) := dk_172 (dk_at dksX7_richest_3 11 rfl rfl)
abbrev cX7_goesTo : ByteArray := prog_14_method_63_code
def yX7_goesTo : MethodName := ⟨RX7, "goesTo", "(II)I"⟩
def dkwX7_goesTo_2 : List UInt8 := [28, 182, 1, 50, 182, 0, 61, 172]
abbrev dktX7_goesTo_2 : List UInt8 := dkwX7_goesTo_2 ++ []
def dkwX7_goesTo_1 : List UInt8 := [153, 0, 11, 28, 27, 184, 0, 235, 154, 0, 9, 42, 5, 182, 0, 57, 172, 42, 182, 1, 76, 42, 42, 27]
abbrev dktX7_goesTo_1 : List UInt8 := dkwX7_goesTo_1 ++ dktX7_goesTo_2
def dkwX7_goesTo_0 : List UInt8 := [42, 3, 181, 0, 51, 42, 27, 182, 1, 35, 154, 0, 9, 42, 4, 182, 0, 57, 172, 42, 28, 182, 1, 82]
abbrev dktX7_goesTo_0 : List UInt8 := dkwX7_goesTo_0 ++ dktX7_goesTo_1
theorem dksX7_goesTo_0 : cX7_goesTo.data.toList.drop 0 = dktX7_goesTo_0 := by decide +kernel
theorem dksX7_goesTo_1 : cX7_goesTo.data.toList.drop 24 = dktX7_goesTo_1 := dk_seg dksX7_goesTo_0 24 rfl rfl
theorem dksX7_goesTo_2 : cX7_goesTo.data.toList.drop 48 = dktX7_goesTo_2 := dk_seg dksX7_goesTo_1 24 rfl rfl
theorem dX7_goesTo_0 : decode cX7_goesTo 0 = .ok (.aload_n 0, 1) := dk_42 (dk_at dksX7_goesTo_0 0 rfl rfl)
theorem dX7_goesTo_1 : decode cX7_goesTo 1 = .ok (.iconst 0, 1) := dk_3 (dk_at dksX7_goesTo_0 1 rfl rfl)
theorem dX7_goesTo_2 : decode cX7_goesTo 2 = .ok (.putfield 51, 3) := dk_181 0 51 (dk_at dksX7_goesTo_0 2 rfl rfl)
theorem dX7_goesTo_5 : decode cX7_goesTo 5 = .ok (.aload_n 0, 1) := dk_42 (dk_at dksX7_goesTo_0 5 rfl rfl)
theorem dX7_goesTo_6 : decode cX7_goesTo 6 = .ok (.iload_n 1, 1) := dk_27 (dk_at dksX7_goesTo_0 6 rfl rfl)
theorem dX7_goesTo_7 : decode cX7_goesTo 7 = .ok (.invokevirtual 291, 3) := dk_182 1 35 (dk_at dksX7_goesTo_0 7 rfl rfl)
theorem dX7_goesTo_10 : decode cX7_goesTo 10 = .ok (.ifCond .ne 9, 3) := dk_154 0 9 (dk_at dksX7_goesTo_0 10 rfl rfl)
theorem dX7_goesTo_13 : decode cX7_goesTo 13 = .ok (.aload_n 0, 1) := dk_42 (dk_at dksX7_goesTo_0 13 rfl rfl)
theorem dX7_goesTo_14 : decode cX7_goesTo 14 = .ok (.iconst 1, 1) := dk_4 (dk_at dksX7_goesTo_0 14 rfl rfl)
theorem dX7_goesTo_15 : decode cX7_goesTo 15 = .ok (.invokevirtual 57, 3) := dk_182 0 57 (dk_at dksX7_goesTo_0 15 rfl rfl)
theorem dX7_goesTo_18 : decode cX7_goesTo 18 = .ok (.ireturn, 1) := dk_172 (dk_at dksX7_goesTo_0 18 rfl rfl)
theorem dX7_goesTo_19 : decode cX7_goesTo 19 = .ok (.aload_n 0, 1) := dk_42 (dk_at dksX7_goesTo_0 19 rfl rfl)
theorem dX7_goesTo_20 : decode cX7_goesTo 20 = .ok (.iload_n 2, 1) := dk_28 (dk_at dksX7_goesTo_0 20 rfl rfl)
theorem dX7_goesTo_21 : decode cX7_goesTo 21 = .ok (.invokevirtual 338, 3) := dk_182 1 82 (dk_at dksX7_goesTo_0 21 rfl rfl)
theorem dX7_goesTo_24 : decode cX7_goesTo 24 = .ok (.ifCond .eq 11, 3) := dk_153 0 11 (dk_at dksX7_goesTo_1 0 rfl rfl)
theorem dX7_goesTo_27 : decode cX7_goesTo 27 = .ok (.iload_n 2, 1) := dk_28 (dk_at dksX7_goesTo_1 3 rfl rfl)
theorem dX7_goesTo_28 : decode cX7_goesTo 28 = .ok (.iload_n 1, 1) := dk_27 (dk_at dksX7_goesTo_1 4 rfl rfl)
theorem dX7_goesTo_29 : decode cX7_goesTo 29 = .ok (.invokestatic 235, 3) := dk_184 0 235 (dk_at dksX7_goesTo_1 5 rfl rfl)
theorem dX7_goesTo_32 : decode cX7_goesTo 32 = .ok (.ifCond .ne 9, 3) := dk_154 0 9 (dk_at dksX7_goesTo_1 8 rfl rfl)
theorem dX7_goesTo_35 : decode cX7_goesTo 35 = .ok (.aload_n 0, 1) := dk_42 (dk_at dksX7_goesTo_1 11 rfl rfl)
theorem dX7_goesTo_36 : decode cX7_goesTo 36 = .ok (.iconst 2, 1) := dk_5 (dk_at dksX7_goesTo_1 12 rfl rfl)
theorem dX7_goesTo_37 : decode cX7_goesTo 37 = .ok (.invokevirtual 57, 3) := dk_182 0 57 (dk_at dksX7_goesTo_1 13 rfl rfl)
theorem dX7_goesTo_40 : decode cX7_goesTo 40 = .ok (.ireturn, 1) := dk_172 (dk_at dksX7_goesTo_1 16 rfl rfl)
theorem dX7_goesTo_41 : decode cX7_goesTo 41 = .ok (.aload_n 0, 1) := dk_42 (dk_at dksX7_goesTo_1 17 rfl rfl)
theorem dX7_goesTo_42 : decode cX7_goesTo 42 = .ok (.invokevirtual 332, 3) := dk_182 1 76 (dk_at dksX7_goesTo_1 18 rfl rfl)
theorem dX7_goesTo_45 : decode cX7_goesTo 45 = .ok (.aload_n 0, 1) := dk_42 (dk_at dksX7_goesTo_1 21 rfl rfl)
theorem dX7_goesTo_46 : decode cX7_goesTo 46 = .ok (.aload_n 0, 1) := dk_42 (dk_at dksX7_goesTo_1 22 rfl rfl)
theorem dX7_goesTo_47 : decode cX7_goesTo 47 = .ok (.iload_n 1, 1) := dk_27 (dk_at dksX7_goesTo_1 23 rfl rfl)
theorem dX7_goesTo_48 : decode cX7_goesTo 48 = .ok (.iload_n 2, 1) := dk_28 (dk_at dksX7_goesTo_2 0 rfl rfl)
theorem dX7_goesTo_49 : decode cX7_goesTo 49 = .ok (.invokevirtual 306, 3) := dk_182 1 50 (dk_at dksX7_goesTo_2 1 rfl rfl)
theorem dX7_goesTo_52 : decode cX7_goesTo 52 = .ok (.invokevirtual 61, 3) := dk_182 0 61 (dk_at dksX7_goesTo_2 4 rfl rfl)
theorem dX7_goesTo_55 : decode cX7_goesTo 55 = .ok (.ireturn, 1) := dk_172 (dk_at dksX7_goesTo_2 7 rfl rfl)
abbrev cX7_canDie : ByteArray := prog_14_method_62_code
def yX7_canDie : MethodName := ⟨RX7, "canDie", "(I)Z"⟩
def dkwX7_canDie_1 : List UInt8 := [46, 2, 130, 126, 154, 0, 7, 4, 167, 0, 4, 3, 172]
abbrev dktX7_canDie_1 : List UInt8 := dkwX7_canDie_1 ++ []
def dkwX7_canDie_0 : List UInt8 := [27, 155, 0, 34, 27, 4, 42, 180, 1, 24, 180, 0, 170, 120, 162, 0, 21, 27, 42, 180, 0, 17, 16, 42]
abbrev dktX7_canDie_0 : List UInt8 := dkwX7_canDie_0 ++ dktX7_canDie_1
theorem dksX7_canDie_0 : cX7_canDie.data.toList.drop 0 = dktX7_canDie_0 := by decide +kernel
theorem dksX7_canDie_1 : cX7_canDie.data.toList.drop 24 = dktX7_canDie_1 := dk_seg dksX7_canDie_0 24 rfl rfl
theorem dX7_canDie_0 : decode cX7_canDie 0 = .ok (.iload_n 1, 1) := dk_27 (dk_at dksX7_canDie_0 0 rfl rfl)
theorem dX7_canDie_1 : decode cX7_canDie 1 = .ok (.ifCond .lt 34, 3) := dk_155 0 34 (dk_at dksX7_canDie_0 1 rfl rfl)
theorem dX7_canDie_4 : decode cX7_canDie 4 = .ok (.iload_n 1, 1) := dk_27 (dk_at dksX7_canDie_0 4 rfl rfl)
theorem dX7_canDie_5 : decode cX7_canDie 5 = .ok (.iconst 1, 1) := dk_4 (dk_at dksX7_canDie_0 5 rfl rfl)
theorem dX7_canDie_6 : decode cX7_canDie 6 = .ok (.aload_n 0, 1) := dk_42 (dk_at dksX7_canDie_0 6 rfl rfl)
theorem dX7_canDie_7 : decode cX7_canDie 7 = .ok (.getfield 280, 3) := dk_180 1 24 (dk_at dksX7_canDie_0 7 rfl rfl)
theorem dX7_canDie_10 : decode cX7_canDie 10 = .ok (.getfield 170, 3) := dk_180 0 170 (dk_at dksX7_canDie_0 10 rfl rfl)
theorem dX7_canDie_13 : decode cX7_canDie 13 = .ok (.ishl, 1) := dk_120 (dk_at dksX7_canDie_0 13 rfl rfl)
theorem dX7_canDie_14 : decode cX7_canDie 14 = .ok (.if_icmp .ge 21, 3) := dk_162 0 21 (dk_at dksX7_canDie_0 14 rfl rfl)
theorem dX7_canDie_17 : decode cX7_canDie 17 = .ok (.iload_n 1, 1) := dk_27 (dk_at dksX7_canDie_0 17 rfl rfl)
theorem dX7_canDie_18 : decode cX7_canDie 18 = .ok (.aload_n 0, 1) := dk_42 (dk_at dksX7_canDie_0 18 rfl rfl)
theorem dX7_canDie_19 : decode cX7_canDie 19 = .ok (.getfield 17, 3) := dk_180 0 17 (dk_at dksX7_canDie_0 19 rfl rfl)
theorem dX7_canDie_22 : decode cX7_canDie 22 = .ok (.bipush 42, 2) := dk_16 42 (dk_at dksX7_canDie_0 22 rfl rfl)
theorem dX7_canDie_24 : decode cX7_canDie 24 = .ok (.iaload, 1) := dk_46 (dk_at dksX7_canDie_1 0 rfl rfl)
theorem dX7_canDie_25 : decode cX7_canDie 25 = .ok (.iconst (-1), 1) := dk_2 (dk_at dksX7_canDie_1 1 rfl rfl)
theorem dX7_canDie_26 : decode cX7_canDie 26 = .ok (.ixor, 1) := dk_130 (dk_at dksX7_canDie_1 2 rfl rfl)
theorem dX7_canDie_27 : decode cX7_canDie 27 = .ok (.iand, 1) := dk_126 (dk_at dksX7_canDie_1 3 rfl rfl)
theorem dX7_canDie_28 : decode cX7_canDie 28 = .ok (.ifCond .ne 7, 3) := dk_154 0 7 (dk_at dksX7_canDie_1 4 rfl rfl)
theorem dX7_canDie_31 : decode cX7_canDie 31 = .ok (.iconst 1, 1) := dk_4 (dk_at dksX7_canDie_1 7 rfl rfl)
theorem dX7_canDie_32 : decode cX7_canDie 32 = .ok (.goto 4, 3) := dk_167 0 4 (dk_at dksX7_canDie_1 8 rfl rfl)
theorem dX7_canDie_35 : decode cX7_canDie 35 = .ok (.iconst 0, 1) := dk_3 (dk_at dksX7_canDie_1 11 rfl rfl)
theorem dX7_canDie_36 : decode cX7_canDie 36 = .ok (.ireturn, 1) := dk_172 (dk_at dksX7_canDie_1 12 rfl rfl)
abbrev cX7_hasThen : ByteArray := prog_14_method_64_code
def yX7_hasThen : MethodName := ⟨RX7, "hasThen", "(II)I"⟩
def dkwX7_hasThen_2 : List UInt8 := [180, 0, 33, 27, 46, 182, 0, 61, 172]
abbrev dktX7_hasThen_2 : List UInt8 := dkwX7_hasThen_2 ++ []
def dkwX7_hasThen_1 : List UInt8 := [182, 1, 82, 154, 0, 9, 42, 5, 182, 0, 57, 172, 42, 182, 1, 76, 42, 28, 182, 1, 56, 42, 42]
abbrev dktX7_hasThen_1 : List UInt8 := dkwX7_hasThen_1 ++ dktX7_hasThen_2
def dkwX7_hasThen_0 : List UInt8 := [42, 3, 181, 0, 51, 42, 27, 182, 1, 73, 62, 29, 158, 0, 9, 42, 29, 182, 0, 57, 172, 42, 28]
abbrev dktX7_hasThen_0 : List UInt8 := dkwX7_hasThen_0 ++ dktX7_hasThen_1
theorem dksX7_hasThen_0 : cX7_hasThen.data.toList.drop 0 = dktX7_hasThen_0 := by decide +kernel
theorem dksX7_hasThen_1 : cX7_hasThen.data.toList.drop 23 = dktX7_hasThen_1 := dk_seg dksX7_hasThen_0 23 rfl rfl
theorem dksX7_hasThen_2 : cX7_hasThen.data.toList.drop 46 = dktX7_hasThen_2 := dk_seg dksX7_hasThen_1 23 rfl rfl
theorem dX7_hasThen_0 : decode cX7_hasThen 0 = .ok (.aload_n 0, 1) := dk_42 (dk_at dksX7_hasThen_0 0 rfl rfl)
theorem dX7_hasThen_1 : decode cX7_hasThen 1 = .ok (.iconst 0, 1) := dk_3 (dk_at dksX7_hasThen_0 1 rfl rfl)
theorem dX7_hasThen_2 : decode cX7_hasThen 2 = .ok (.putfield 51, 3) := dk_181 0 51 (dk_at dksX7_hasThen_0 2 rfl rfl)
theorem dX7_hasThen_5 : decode cX7_hasThen 5 = .ok (.aload_n 0, 1) := dk_42 (dk_at dksX7_hasThen_0 5 rfl rfl)
theorem dX7_hasThen_6 : decode cX7_hasThen 6 = .ok (.iload_n 1, 1) := dk_27 (dk_at dksX7_hasThen_0 6 rfl rfl)
theorem dX7_hasThen_7 : decode cX7_hasThen 7 = .ok (.invokevirtual 329, 3) := dk_182 1 73 (dk_at dksX7_hasThen_0 7 rfl rfl)
theorem dX7_hasThen_10 : decode cX7_hasThen 10 = .ok (.istore_n 3, 1) := dk_62 (dk_at dksX7_hasThen_0 10 rfl rfl)
theorem dX7_hasThen_11 : decode cX7_hasThen 11 = .ok (.iload_n 3, 1) := dk_29 (dk_at dksX7_hasThen_0 11 rfl rfl)
theorem dX7_hasThen_12 : decode cX7_hasThen 12 = .ok (.ifCond .le 9, 3) := dk_158 0 9 (dk_at dksX7_hasThen_0 12 rfl rfl)
theorem dX7_hasThen_15 : decode cX7_hasThen 15 = .ok (.aload_n 0, 1) := dk_42 (dk_at dksX7_hasThen_0 15 rfl rfl)
theorem dX7_hasThen_16 : decode cX7_hasThen 16 = .ok (.iload_n 3, 1) := dk_29 (dk_at dksX7_hasThen_0 16 rfl rfl)
theorem dX7_hasThen_17 : decode cX7_hasThen 17 = .ok (.invokevirtual 57, 3) := dk_182 0 57 (dk_at dksX7_hasThen_0 17 rfl rfl)
theorem dX7_hasThen_20 : decode cX7_hasThen 20 = .ok (.ireturn, 1) := dk_172 (dk_at dksX7_hasThen_0 20 rfl rfl)
theorem dX7_hasThen_21 : decode cX7_hasThen 21 = .ok (.aload_n 0, 1) := dk_42 (dk_at dksX7_hasThen_0 21 rfl rfl)
theorem dX7_hasThen_22 : decode cX7_hasThen 22 = .ok (.iload_n 2, 1) := dk_28 (dk_at dksX7_hasThen_0 22 rfl rfl)
theorem dX7_hasThen_23 : decode cX7_hasThen 23 = .ok (.invokevirtual 338, 3) := dk_182 1 82 (dk_at dksX7_hasThen_1 0 rfl rfl)
theorem dX7_hasThen_26 : decode cX7_hasThen 26 = .ok (.ifCond .ne 9, 3) := dk_154 0 9 (dk_at dksX7_hasThen_1 3 rfl rfl)
theorem dX7_hasThen_29 : decode cX7_hasThen 29 = .ok (.aload_n 0, 1) := dk_42 (dk_at dksX7_hasThen_1 6 rfl rfl)
theorem dX7_hasThen_30 : decode cX7_hasThen 30 = .ok (.iconst 2, 1) := dk_5 (dk_at dksX7_hasThen_1 7 rfl rfl)
theorem dX7_hasThen_31 : decode cX7_hasThen 31 = .ok (.invokevirtual 57, 3) := dk_182 0 57 (dk_at dksX7_hasThen_1 8 rfl rfl)
theorem dX7_hasThen_34 : decode cX7_hasThen 34 = .ok (.ireturn, 1) := dk_172 (dk_at dksX7_hasThen_1 11 rfl rfl)
theorem dX7_hasThen_35 : decode cX7_hasThen 35 = .ok (.aload_n 0, 1) := dk_42 (dk_at dksX7_hasThen_1 12 rfl rfl)
theorem dX7_hasThen_36 : decode cX7_hasThen 36 = .ok (.invokevirtual 332, 3) := dk_182 1 76 (dk_at dksX7_hasThen_1 13 rfl rfl)
theorem dX7_hasThen_39 : decode cX7_hasThen 39 = .ok (.aload_n 0, 1) := dk_42 (dk_at dksX7_hasThen_1 16 rfl rfl)
theorem dX7_hasThen_40 : decode cX7_hasThen 40 = .ok (.iload_n 2, 1) := dk_28 (dk_at dksX7_hasThen_1 17 rfl rfl)
theorem dX7_hasThen_41 : decode cX7_hasThen 41 = .ok (.invokevirtual 312, 3) := dk_182 1 56 (dk_at dksX7_hasThen_1 18 rfl rfl)
theorem dX7_hasThen_44 : decode cX7_hasThen 44 = .ok (.aload_n 0, 1) := dk_42 (dk_at dksX7_hasThen_1 21 rfl rfl)
theorem dX7_hasThen_45 : decode cX7_hasThen 45 = .ok (.aload_n 0, 1) := dk_42 (dk_at dksX7_hasThen_1 22 rfl rfl)
theorem dX7_hasThen_46 : decode cX7_hasThen 46 = .ok (.getfield 33, 3) := dk_180 0 33 (dk_at dksX7_hasThen_2 0 rfl rfl)
theorem dX7_hasThen_49 : decode cX7_hasThen 49 = .ok (.iload_n 1, 1) := dk_27 (dk_at dksX7_hasThen_2 3 rfl rfl)
theorem dX7_hasThen_50 : decode cX7_hasThen 50 = .ok (.iaload, 1) := dk_46 (dk_at dksX7_hasThen_2 4 rfl rfl)
theorem dX7_hasThen_51 : decode cX7_hasThen 51 = .ok (.invokevirtual 61, 3) := dk_182 0 61 (dk_at dksX7_hasThen_2 5 rfl rfl)
theorem dX7_hasThen_54 : decode cX7_hasThen 54 = .ok (.ireturn, 1) := dk_172 (dk_at dksX7_hasThen_2 8 rfl rfl)
abbrev cX7_catThen : ByteArray := prog_14_method_65_code
def yX7_catThen : MethodName := ⟨RX7, "catThen", "(I)I"⟩
def dkwX7_catThen_2 : List UInt8 := [182, 0, 61, 172]
abbrev dktX7_catThen_2 : List UInt8 := dkwX7_catThen_2 ++ []
def dkwX7_catThen_1 : List UInt8 := [154, 0, 9, 42, 5, 182, 0, 57, 172, 42, 182, 1, 76, 42, 27, 182, 1, 56, 42, 42, 180, 1, 47]
abbrev dktX7_catThen_1 : List UInt8 := dkwX7_catThen_1 ++ dktX7_catThen_2
def dkwX7_catThen_0 : List UInt8 := [42, 3, 181, 0, 51, 42, 180, 1, 24, 199, 0, 9, 42, 4, 182, 0, 57, 172, 42, 27, 182, 1, 82]
abbrev dktX7_catThen_0 : List UInt8 := dkwX7_catThen_0 ++ dktX7_catThen_1
theorem dksX7_catThen_0 : cX7_catThen.data.toList.drop 0 = dktX7_catThen_0 := by decide +kernel
theorem dksX7_catThen_1 : cX7_catThen.data.toList.drop 23 = dktX7_catThen_1 := dk_seg dksX7_catThen_0 23 rfl rfl
theorem dksX7_catThen_2 : cX7_catThen.data.toList.drop 46 = dktX7_catThen_2 := dk_seg dksX7_catThen_1 23 rfl rfl
theorem dX7_catThen_0 : decode cX7_catThen 0 = .ok (.aload_n 0, 1) := dk_42 (dk_at dksX7_catThen_0 0 rfl rfl)
theorem dX7_catThen_1 : decode cX7_catThen 1 = .ok (.iconst 0, 1) := dk_3 (dk_at dksX7_catThen_0 1 rfl rfl)
theorem dX7_catThen_2 : decode cX7_catThen 2 = .ok (.putfield 51, 3) := dk_181 0 51 (dk_at dksX7_catThen_0 2 rfl rfl)
theorem dX7_catThen_5 : decode cX7_catThen 5 = .ok (.aload_n 0, 1) := dk_42 (dk_at dksX7_catThen_0 5 rfl rfl)
theorem dX7_catThen_6 : decode cX7_catThen 6 = .ok (.getfield 280, 3) := dk_180 1 24 (dk_at dksX7_catThen_0 6 rfl rfl)
theorem dX7_catThen_9 : decode cX7_catThen 9 = .ok (.ifnonnull 9, 3) := dk_199 0 9 (dk_at dksX7_catThen_0 9 rfl rfl)
theorem dX7_catThen_12 : decode cX7_catThen 12 = .ok (.aload_n 0, 1) := dk_42 (dk_at dksX7_catThen_0 12 rfl rfl)
theorem dX7_catThen_13 : decode cX7_catThen 13 = .ok (.iconst 1, 1) := dk_4 (dk_at dksX7_catThen_0 13 rfl rfl)
theorem dX7_catThen_14 : decode cX7_catThen 14 = .ok (.invokevirtual 57, 3) := dk_182 0 57 (dk_at dksX7_catThen_0 14 rfl rfl)
theorem dX7_catThen_17 : decode cX7_catThen 17 = .ok (.ireturn, 1) := dk_172 (dk_at dksX7_catThen_0 17 rfl rfl)
theorem dX7_catThen_18 : decode cX7_catThen 18 = .ok (.aload_n 0, 1) := dk_42 (dk_at dksX7_catThen_0 18 rfl rfl)
theorem dX7_catThen_19 : decode cX7_catThen 19 = .ok (.iload_n 1, 1) := dk_27 (dk_at dksX7_catThen_0 19 rfl rfl)
theorem dX7_catThen_20 : decode cX7_catThen 20 = .ok (.invokevirtual 338, 3) := dk_182 1 82 (dk_at dksX7_catThen_0 20 rfl rfl)
theorem dX7_catThen_23 : decode cX7_catThen 23 = .ok (.ifCond .ne 9, 3) := dk_154 0 9 (dk_at dksX7_catThen_1 0 rfl rfl)
theorem dX7_catThen_26 : decode cX7_catThen 26 = .ok (.aload_n 0, 1) := dk_42 (dk_at dksX7_catThen_1 3 rfl rfl)
theorem dX7_catThen_27 : decode cX7_catThen 27 = .ok (.iconst 2, 1) := dk_5 (dk_at dksX7_catThen_1 4 rfl rfl)
theorem dX7_catThen_28 : decode cX7_catThen 28 = .ok (.invokevirtual 57, 3) := dk_182 0 57 (dk_at dksX7_catThen_1 5 rfl rfl)
theorem dX7_catThen_31 : decode cX7_catThen 31 = .ok (.ireturn, 1) := dk_172 (dk_at dksX7_catThen_1 8 rfl rfl)
theorem dX7_catThen_32 : decode cX7_catThen 32 = .ok (.aload_n 0, 1) := dk_42 (dk_at dksX7_catThen_1 9 rfl rfl)
theorem dX7_catThen_33 : decode cX7_catThen 33 = .ok (.invokevirtual 332, 3) := dk_182 1 76 (dk_at dksX7_catThen_1 10 rfl rfl)
theorem dX7_catThen_36 : decode cX7_catThen 36 = .ok (.aload_n 0, 1) := dk_42 (dk_at dksX7_catThen_1 13 rfl rfl)
theorem dX7_catThen_37 : decode cX7_catThen 37 = .ok (.iload_n 1, 1) := dk_27 (dk_at dksX7_catThen_1 14 rfl rfl)
theorem dX7_catThen_38 : decode cX7_catThen 38 = .ok (.invokevirtual 312, 3) := dk_182 1 56 (dk_at dksX7_catThen_1 15 rfl rfl)
theorem dX7_catThen_41 : decode cX7_catThen 41 = .ok (.aload_n 0, 1) := dk_42 (dk_at dksX7_catThen_1 18 rfl rfl)
theorem dX7_catThen_42 : decode cX7_catThen 42 = .ok (.aload_n 0, 1) := dk_42 (dk_at dksX7_catThen_1 19 rfl rfl)
theorem dX7_catThen_43 : decode cX7_catThen 43 = .ok (.getfield 303, 3) := dk_180 1 47 (dk_at dksX7_catThen_1 20 rfl rfl)
theorem dX7_catThen_46 : decode cX7_catThen 46 = .ok (.invokevirtual 61, 3) := dk_182 0 61 (dk_at dksX7_catThen_2 0 rfl rfl)
theorem dX7_catThen_49 : decode cX7_catThen 49 = .ok (.ireturn, 1) := dk_172 (dk_at dksX7_catThen_2 3 rfl rfl)
abbrev cX7_rounds : ByteArray := prog_14_method_66_code
def yX7_rounds : MethodName := ⟨RX7, "rounds", "()I"⟩
def dkwX7_rounds_4 : List UInt8 := [28, 120, 167, 0, 4, 3, 128, 60, 132, 2, 1, 167, 255, 175, 42, 27, 182, 0, 61, 172]
abbrev dktX7_rounds_4 : List UInt8 := dkwX7_rounds_4 ++ []
def dkwX7_rounds_3 : List UInt8 := [28, 159, 0, 16, 42, 180, 0, 30, 29, 46, 62, 132, 4, 1, 167, 255, 228, 27, 29, 28, 160, 0, 9, 4]
abbrev dktX7_rounds_3 : List UInt8 := dkwX7_rounds_3 ++ dktX7_rounds_4
def dkwX7_rounds_2 : List UInt8 := [42, 180, 0, 30, 28, 46, 62, 3, 54, 4, 21, 4, 16, 6, 162, 0, 27, 29, 16, 254, 159, 0, 21, 29]
abbrev dktX7_rounds_2 : List UInt8 := dkwX7_rounds_2 ++ dktX7_rounds_3
def dkwX7_rounds_1 : List UInt8 := [3, 61, 28, 42, 180, 1, 24, 180, 0, 170, 162, 0, 76, 42, 28, 182, 1, 38, 154, 0, 6, 167, 0, 59]
abbrev dktX7_rounds_1 : List UInt8 := dkwX7_rounds_1 ++ dktX7_rounds_2
def dkwX7_rounds_0 : List UInt8 := [42, 3, 181, 0, 51, 42, 180, 1, 24, 199, 0, 9, 42, 4, 182, 0, 57, 172, 42, 182, 1, 76, 3, 60]
abbrev dktX7_rounds_0 : List UInt8 := dkwX7_rounds_0 ++ dktX7_rounds_1
theorem dksX7_rounds_0 : cX7_rounds.data.toList.drop 0 = dktX7_rounds_0 := by decide +kernel
theorem dksX7_rounds_1 : cX7_rounds.data.toList.drop 24 = dktX7_rounds_1 := dk_seg dksX7_rounds_0 24 rfl rfl
theorem dksX7_rounds_2 : cX7_rounds.data.toList.drop 48 = dktX7_rounds_2 := dk_seg dksX7_rounds_1 24 rfl rfl
theorem dksX7_rounds_3 : cX7_rounds.data.toList.drop 72 = dktX7_rounds_3 := dk_seg dksX7_rounds_2 24 rfl rfl
theorem dksX7_rounds_4 : cX7_rounds.data.toList.drop 96 = dktX7_rounds_4 := dk_seg dksX7_rounds_3 24 rfl rfl
theorem dX7_rounds_0 : decode cX7_rounds 0 = .ok (.aload_n 0, 1) := dk_42 (dk_at dksX7_rounds_0 0 rfl rfl)
theorem dX7_rounds_1 : decode cX7_rounds 1 = .ok (.iconst 0, 1) := dk_3 (dk_at dksX7_rounds_0 1 rfl rfl)
theorem dX7_rounds_2 : decode cX7_rounds 2 = .ok (.putfield 51, 3) := dk_181 0 51 (dk_at dksX7_rounds_0 2 rfl rfl)
theorem dX7_rounds_5 : decode cX7_rounds 5 = .ok (.aload_n 0, 1) := dk_42 (dk_at dksX7_rounds_0 5 rfl rfl)
theorem dX7_rounds_6 : decode cX7_rounds 6 = .ok (.getfield 280, 3) := dk_180 1 24 (dk_at dksX7_rounds_0 6 rfl rfl)
theorem dX7_rounds_9 : decode cX7_rounds 9 = .ok (.ifnonnull 9, 3) := dk_199 0 9 (dk_at dksX7_rounds_0 9 rfl rfl)
theorem dX7_rounds_12 : decode cX7_rounds 12 = .ok (.aload_n 0, 1) := dk_42 (dk_at dksX7_rounds_0 12 rfl rfl)
theorem dX7_rounds_13 : decode cX7_rounds 13 = .ok (.iconst 1, 1) := dk_4 (dk_at dksX7_rounds_0 13 rfl rfl)
theorem dX7_rounds_14 : decode cX7_rounds 14 = .ok (.invokevirtual 57, 3) := dk_182 0 57 (dk_at dksX7_rounds_0 14 rfl rfl)
theorem dX7_rounds_17 : decode cX7_rounds 17 = .ok (.ireturn, 1) := dk_172 (dk_at dksX7_rounds_0 17 rfl rfl)
theorem dX7_rounds_18 : decode cX7_rounds 18 = .ok (.aload_n 0, 1) := dk_42 (dk_at dksX7_rounds_0 18 rfl rfl)
theorem dX7_rounds_19 : decode cX7_rounds 19 = .ok (.invokevirtual 332, 3) := dk_182 1 76 (dk_at dksX7_rounds_0 19 rfl rfl)
theorem dX7_rounds_22 : decode cX7_rounds 22 = .ok (.iconst 0, 1) := dk_3 (dk_at dksX7_rounds_0 22 rfl rfl)
theorem dX7_rounds_23 : decode cX7_rounds 23 = .ok (.istore_n 1, 1) := dk_60 (dk_at dksX7_rounds_0 23 rfl rfl)
theorem dX7_rounds_24 : decode cX7_rounds 24 = .ok (.iconst 0, 1) := dk_3 (dk_at dksX7_rounds_1 0 rfl rfl)
theorem dX7_rounds_25 : decode cX7_rounds 25 = .ok (.istore_n 2, 1) := dk_61 (dk_at dksX7_rounds_1 1 rfl rfl)
theorem dX7_rounds_26 : decode cX7_rounds 26 = .ok (.iload_n 2, 1) := dk_28 (dk_at dksX7_rounds_1 2 rfl rfl)
theorem dX7_rounds_27 : decode cX7_rounds 27 = .ok (.aload_n 0, 1) := dk_42 (dk_at dksX7_rounds_1 3 rfl rfl)
theorem dX7_rounds_28 : decode cX7_rounds 28 = .ok (.getfield 280, 3) := dk_180 1 24 (dk_at dksX7_rounds_1 4 rfl rfl)
theorem dX7_rounds_31 : decode cX7_rounds 31 = .ok (.getfield 170, 3) := dk_180 0 170 (dk_at dksX7_rounds_1 7 rfl rfl)
theorem dX7_rounds_34 : decode cX7_rounds 34 = .ok (.if_icmp .ge 76, 3) := dk_162 0 76 (dk_at dksX7_rounds_1 10 rfl rfl)
theorem dX7_rounds_37 : decode cX7_rounds 37 = .ok (.aload_n 0, 1) := dk_42 (dk_at dksX7_rounds_1 13 rfl rfl)
theorem dX7_rounds_38 : decode cX7_rounds 38 = .ok (.iload_n 2, 1) := dk_28 (dk_at dksX7_rounds_1 14 rfl rfl)
theorem dX7_rounds_39 : decode cX7_rounds 39 = .ok (.invokevirtual 294, 3) := dk_182 1 38 (dk_at dksX7_rounds_1 15 rfl rfl)
theorem dX7_rounds_42 : decode cX7_rounds 42 = .ok (.ifCond .ne 6, 3) := dk_154 0 6 (dk_at dksX7_rounds_1 18 rfl rfl)
theorem dX7_rounds_45 : decode cX7_rounds 45 = .ok (.goto 59, 3) := dk_167 0 59 (dk_at dksX7_rounds_1 21 rfl rfl)
theorem dX7_rounds_48 : decode cX7_rounds 48 = .ok (.aload_n 0, 1) := dk_42 (dk_at dksX7_rounds_2 0 rfl rfl)
theorem dX7_rounds_49 : decode cX7_rounds 49 = .ok (.getfield 30, 3) := dk_180 0 30 (dk_at dksX7_rounds_2 1 rfl rfl)
theorem dX7_rounds_52 : decode cX7_rounds 52 = .ok (.iload_n 2, 1) := dk_28 (dk_at dksX7_rounds_2 4 rfl rfl)
theorem dX7_rounds_53 : decode cX7_rounds 53 = .ok (.iaload, 1) := dk_46 (dk_at dksX7_rounds_2 5 rfl rfl)
theorem dX7_rounds_54 : decode cX7_rounds 54 = .ok (.istore_n 3, 1) := dk_62 (dk_at dksX7_rounds_2 6 rfl rfl)
theorem dX7_rounds_55 : decode cX7_rounds 55 = .ok (.iconst 0, 1) := dk_3 (dk_at dksX7_rounds_2 7 rfl rfl)
theorem dX7_rounds_56 : decode cX7_rounds 56 = .ok (.istore 4, 2) := dk_54 4 (dk_at dksX7_rounds_2 8 rfl rfl)
theorem dX7_rounds_58 : decode cX7_rounds 58 = .ok (.iload 4, 2) := dk_21 4 (dk_at dksX7_rounds_2 10 rfl rfl)
theorem dX7_rounds_60 : decode cX7_rounds 60 = .ok (.bipush 6, 2) := dk_16 6 (dk_at dksX7_rounds_2 12 rfl rfl)
theorem dX7_rounds_62 : decode cX7_rounds 62 = .ok (.if_icmp .ge 27, 3) := dk_162 0 27 (dk_at dksX7_rounds_2 14 rfl rfl)
theorem dX7_rounds_65 : decode cX7_rounds 65 = .ok (.iload_n 3, 1) := dk_29 (dk_at dksX7_rounds_2 17 rfl rfl)
theorem dX7_rounds_66 : decode cX7_rounds 66 = .ok (.bipush (-2), 2) := dk_16 254 (dk_at dksX7_rounds_2 18 rfl rfl)
theorem dX7_rounds_68 : decode cX7_rounds 68 = .ok (.if_icmp .eq 21, 3) := dk_159 0 21 (dk_at dksX7_rounds_2 20 rfl rfl)
theorem dX7_rounds_71 : decode cX7_rounds 71 = .ok (.iload_n 3, 1) := dk_29 (dk_at dksX7_rounds_2 23 rfl rfl)
theorem dX7_rounds_72 : decode cX7_rounds 72 = .ok (.iload_n 2, 1) := dk_28 (dk_at dksX7_rounds_3 0 rfl rfl)
theorem dX7_rounds_73 : decode cX7_rounds 73 = .ok (.if_icmp .eq 16, 3) := dk_159 0 16 (dk_at dksX7_rounds_3 1 rfl rfl)
theorem dX7_rounds_76 : decode cX7_rounds 76 = .ok (.aload_n 0, 1) := dk_42 (dk_at dksX7_rounds_3 4 rfl rfl)
theorem dX7_rounds_77 : decode cX7_rounds 77 = .ok (.getfield 30, 3) := dk_180 0 30 (dk_at dksX7_rounds_3 5 rfl rfl)
theorem dX7_rounds_80 : decode cX7_rounds 80 = .ok (.iload_n 3, 1) := dk_29 (dk_at dksX7_rounds_3 8 rfl rfl)
theorem dX7_rounds_81 : decode cX7_rounds 81 = .ok (.iaload, 1) := dk_46 (dk_at dksX7_rounds_3 9 rfl rfl)
theorem dX7_rounds_82 : decode cX7_rounds 82 = .ok (.istore_n 3, 1) := dk_62 (dk_at dksX7_rounds_3 10 rfl rfl)
theorem dX7_rounds_83 : decode cX7_rounds 83 = .ok (.iinc 4 1, 3) := dk_132 4 1 (dk_at dksX7_rounds_3 11 rfl rfl)
theorem dX7_rounds_86 : decode cX7_rounds 86 = .ok (.goto (-28), 3) := dk_167 255 228 (dk_at dksX7_rounds_3 14 rfl rfl)
theorem dX7_rounds_89 : decode cX7_rounds 89 = .ok (.iload_n 1, 1) := dk_27 (dk_at dksX7_rounds_3 17 rfl rfl)
theorem dX7_rounds_90 : decode cX7_rounds 90 = .ok (.iload_n 3, 1) := dk_29 (dk_at dksX7_rounds_3 18 rfl rfl)
theorem dX7_rounds_91 : decode cX7_rounds 91 = .ok (.iload_n 2, 1) := dk_28 (dk_at dksX7_rounds_3 19 rfl rfl)
theorem dX7_rounds_92 : decode cX7_rounds 92 = .ok (.if_icmp .ne 9, 3) := dk_160 0 9 (dk_at dksX7_rounds_3 20 rfl rfl)
theorem dX7_rounds_95 : decode cX7_rounds 95 = .ok (.iconst 1, 1) := dk_4 (dk_at dksX7_rounds_3 23 rfl rfl)
theorem dX7_rounds_96 : decode cX7_rounds 96 = .ok (.iload_n 2, 1) := dk_28 (dk_at dksX7_rounds_4 0 rfl rfl)
theorem dX7_rounds_97 : decode cX7_rounds 97 = .ok (.ishl, 1) := dk_120 (dk_at dksX7_rounds_4 1 rfl rfl)
theorem dX7_rounds_98 : decode cX7_rounds 98 = .ok (.goto 4, 3) := dk_167 0 4 (dk_at dksX7_rounds_4 2 rfl rfl)
theorem dX7_rounds_101 : decode cX7_rounds 101 = .ok (.iconst 0, 1) := dk_3 (dk_at dksX7_rounds_4 5 rfl rfl)
theorem dX7_rounds_102 : decode cX7_rounds 102 = .ok (.ior, 1) := dk_128 (dk_at dksX7_rounds_4 6 rfl rfl)
theorem dX7_rounds_103 : decode cX7_rounds 103 = .ok (.istore_n 1, 1) := dk_60 (dk_at dksX7_rounds_4 7 rfl rfl)
theorem dX7_rounds_104 : decode cX7_rounds 104 = .ok (.iinc 2 1, 3) := dk_132 2 1 (dk_at dksX7_rounds_4 8 rfl rfl)
theorem dX7_rounds_107 : decode cX7_rounds 107 = .ok (.goto (-81), 3) := dk_167 255 175 (dk_at dksX7_rounds_4 11 rfl rfl)
theorem dX7_rounds_110 : decode cX7_rounds 110 = .ok (.aload_n 0, 1) := dk_42 (dk_at dksX7_rounds_4 14 rfl rfl)
theorem dX7_rounds_111 : decode cX7_rounds 111 = .ok (.iload_n 1, 1) := dk_27 (dk_at dksX7_rounds_4 15 rfl rfl)
theorem dX7_rounds_112 : decode cX7_rounds 112 = .ok (.invokevirtual 61, 3) := dk_182 0 61 (dk_at dksX7_rounds_4 16 rfl rfl)
theorem dX7_rounds_115 : decode cX7_rounds 115 = .ok (.ireturn, 1) := dk_172 (dk_at dksX7_rounds_4 19 rfl rfl)
abbrev cX7_worthiest : ByteArray := prog_14_method_67_code
def yX7_worthiest : MethodName := ⟨RX7, "worthiest", "()I"⟩
def dkwX7_worthiest_3 : List UInt8 := [42, 180, 0, 21, 29, 46, 61, 29, 60, 132, 3, 1, 167, 255, 201, 42, 27, 182, 0, 61, 172]
abbrev dktX7_worthiest_3 : List UInt8 := dkwX7_worthiest_3 ++ []
def dkwX7_worthiest_2 : List UInt8 := [42, 180, 0, 30, 29, 46, 16, 254, 159, 0, 25, 42, 180, 0, 21, 29, 46, 28, 163, 0, 6, 167, 0, 12]
abbrev dktX7_worthiest_2 : List UInt8 := dkwX7_worthiest_2 ++ dktX7_worthiest_3
def dkwX7_worthiest_1 : List UInt8 := [60, 3, 61, 3, 62, 29, 42, 180, 1, 24, 180, 0, 170, 162, 0, 50, 42, 29, 182, 1, 38, 153, 0, 36]
abbrev dktX7_worthiest_1 : List UInt8 := dkwX7_worthiest_1 ++ dktX7_worthiest_2
def dkwX7_worthiest_0 : List UInt8 := [42, 3, 181, 0, 51, 42, 180, 1, 24, 199, 0, 9, 42, 4, 182, 0, 57, 172, 42, 182, 1, 76, 16, 254]
abbrev dktX7_worthiest_0 : List UInt8 := dkwX7_worthiest_0 ++ dktX7_worthiest_1
theorem dksX7_worthiest_0 : cX7_worthiest.data.toList.drop 0 = dktX7_worthiest_0 := by decide +kernel
theorem dksX7_worthiest_1 : cX7_worthiest.data.toList.drop 24 = dktX7_worthiest_1 := dk_seg dksX7_worthiest_0 24 rfl rfl
theorem dksX7_worthiest_2 : cX7_worthiest.data.toList.drop 48 = dktX7_worthiest_2 := dk_seg dksX7_worthiest_1 24 rfl rfl
theorem dksX7_worthiest_3 : cX7_worthiest.data.toList.drop 72 = dktX7_worthiest_3 := dk_seg dksX7_worthiest_2 24 rfl rfl
theorem dX7_worthiest_0 : decode cX7_worthiest 0 = .ok (.aload_n 0, 1) := dk_42 (dk_at dksX7_worthiest_0 0 rfl rfl)
theorem dX7_worthiest_1 : decode cX7_worthiest 1 = .ok (.iconst 0, 1) := dk_3 (dk_at dksX7_worthiest_0 1 rfl rfl)
theorem dX7_worthiest_2 : decode cX7_worthiest 2 = .ok (.putfield 51, 3) := dk_181 0 51 (dk_at dksX7_worthiest_0 2 rfl rfl)
theorem dX7_worthiest_5 : decode cX7_worthiest 5 = .ok (.aload_n 0, 1) := dk_42 (dk_at dksX7_worthiest_0 5 rfl rfl)
theorem dX7_worthiest_6 : decode cX7_worthiest 6 = .ok (.getfield 280, 3) := dk_180 1 24 (dk_at dksX7_worthiest_0 6 rfl rfl)
theorem dX7_worthiest_9 : decode cX7_worthiest 9 = .ok (.ifnonnull 9, 3) := dk_199 0 9 (dk_at dksX7_worthiest_0 9 rfl rfl)
theorem dX7_worthiest_12 : decode cX7_worthiest 12 = .ok (.aload_n 0, 1) := dk_42 (dk_at dksX7_worthiest_0 12 rfl rfl)
theorem dX7_worthiest_13 : decode cX7_worthiest 13 = .ok (.iconst 1, 1) := dk_4 (dk_at dksX7_worthiest_0 13 rfl rfl)
theorem dX7_worthiest_14 : decode cX7_worthiest 14 = .ok (.invokevirtual 57, 3) := dk_182 0 57 (dk_at dksX7_worthiest_0 14 rfl rfl)
theorem dX7_worthiest_17 : decode cX7_worthiest 17 = .ok (.ireturn, 1) := dk_172 (dk_at dksX7_worthiest_0 17 rfl rfl)
theorem dX7_worthiest_18 : decode cX7_worthiest 18 = .ok (.aload_n 0, 1) := dk_42 (dk_at dksX7_worthiest_0 18 rfl rfl)
theorem dX7_worthiest_19 : decode cX7_worthiest 19 = .ok (.invokevirtual 332, 3) := dk_182 1 76 (dk_at dksX7_worthiest_0 19 rfl rfl)
theorem dX7_worthiest_22 : decode cX7_worthiest 22 = .ok (.bipush (-2), 2) := dk_16 254 (dk_at dksX7_worthiest_0 22 rfl rfl)
theorem dX7_worthiest_24 : decode cX7_worthiest 24 = .ok (.istore_n 1, 1) := dk_60 (dk_at dksX7_worthiest_1 0 rfl rfl)
theorem dX7_worthiest_25 : decode cX7_worthiest 25 = .ok (.iconst 0, 1) := dk_3 (dk_at dksX7_worthiest_1 1 rfl rfl)
theorem dX7_worthiest_26 : decode cX7_worthiest 26 = .ok (.istore_n 2, 1) := dk_61 (dk_at dksX7_worthiest_1 2 rfl rfl)
theorem dX7_worthiest_27 : decode cX7_worthiest 27 = .ok (.iconst 0, 1) := dk_3 (dk_at dksX7_worthiest_1 3 rfl rfl)
theorem dX7_worthiest_28 : decode cX7_worthiest 28 = .ok (.istore_n 3, 1) := dk_62 (dk_at dksX7_worthiest_1 4 rfl rfl)
theorem dX7_worthiest_29 : decode cX7_worthiest 29 = .ok (.iload_n 3, 1) := dk_29 (dk_at dksX7_worthiest_1 5 rfl rfl)
theorem dX7_worthiest_30 : decode cX7_worthiest 30 = .ok (.aload_n 0, 1) := dk_42 (dk_at dksX7_worthiest_1 6 rfl rfl)
theorem dX7_worthiest_31 : decode cX7_worthiest 31 = .ok (.getfield 280, 3) := dk_180 1 24 (dk_at dksX7_worthiest_1 7 rfl rfl)
theorem dX7_worthiest_34 : decode cX7_worthiest 34 = .ok (.getfield 170, 3) := dk_180 0 170 (dk_at dksX7_worthiest_1 10 rfl rfl)
theorem dX7_worthiest_37 : decode cX7_worthiest 37 = .ok (.if_icmp .ge 50, 3) := dk_162 0 50 (dk_at dksX7_worthiest_1 13 rfl rfl)
theorem dX7_worthiest_40 : decode cX7_worthiest 40 = .ok (.aload_n 0, 1) := dk_42 (dk_at dksX7_worthiest_1 16 rfl rfl)
theorem dX7_worthiest_41 : decode cX7_worthiest 41 = .ok (.iload_n 3, 1) := dk_29 (dk_at dksX7_worthiest_1 17 rfl rfl)
theorem dX7_worthiest_42 : decode cX7_worthiest 42 = .ok (.invokevirtual 294, 3) := dk_182 1 38 (dk_at dksX7_worthiest_1 18 rfl rfl)
theorem dX7_worthiest_45 : decode cX7_worthiest 45 = .ok (.ifCond .eq 36, 3) := dk_153 0 36 (dk_at dksX7_worthiest_1 21 rfl rfl)
theorem dX7_worthiest_48 : decode cX7_worthiest 48 = .ok (.aload_n 0, 1) := dk_42 (dk_at dksX7_worthiest_2 0 rfl rfl)
theorem dX7_worthiest_49 : decode cX7_worthiest 49 = .ok (.getfield 30, 3) := dk_180 0 30 (dk_at dksX7_worthiest_2 1 rfl rfl)
theorem dX7_worthiest_52 : decode cX7_worthiest 52 = .ok (.iload_n 3, 1) := dk_29 (dk_at dksX7_worthiest_2 4 rfl rfl)
theorem dX7_worthiest_53 : decode cX7_worthiest 53 = .ok (.iaload, 1) := dk_46 (dk_at dksX7_worthiest_2 5 rfl rfl)
theorem dX7_worthiest_54 : decode cX7_worthiest 54 = .ok (.bipush (-2), 2) := dk_16 254 (dk_at dksX7_worthiest_2 6 rfl rfl)
theorem dX7_worthiest_56 : decode cX7_worthiest 56 = .ok (.if_icmp .eq 25, 3) := dk_159 0 25 (dk_at dksX7_worthiest_2 8 rfl rfl)
theorem dX7_worthiest_59 : decode cX7_worthiest 59 = .ok (.aload_n 0, 1) := dk_42 (dk_at dksX7_worthiest_2 11 rfl rfl)
theorem dX7_worthiest_60 : decode cX7_worthiest 60 = .ok (.getfield 21, 3) := dk_180 0 21 (dk_at dksX7_worthiest_2 12 rfl rfl)
theorem dX7_worthiest_63 : decode cX7_worthiest 63 = .ok (.iload_n 3, 1) := dk_29 (dk_at dksX7_worthiest_2 15 rfl rfl)
theorem dX7_worthiest_64 : decode cX7_worthiest 64 = .ok (.iaload, 1) := dk_46 (dk_at dksX7_worthiest_2 16 rfl rfl)
theorem dX7_worthiest_65 : decode cX7_worthiest 65 = .ok (.iload_n 2, 1) := dk_28 (dk_at dksX7_worthiest_2 17 rfl rfl)
theorem dX7_worthiest_66 : decode cX7_worthiest 66 = .ok (.if_icmp .gt 6, 3) := dk_163 0 6 (dk_at dksX7_worthiest_2 18 rfl rfl)
theorem dX7_worthiest_69 : decode cX7_worthiest 69 = .ok (.goto 12, 3) := dk_167 0 12 (dk_at dksX7_worthiest_2 21 rfl rfl)
theorem dX7_worthiest_72 : decode cX7_worthiest 72 = .ok (.aload_n 0, 1) := dk_42 (dk_at dksX7_worthiest_3 0 rfl rfl)
theorem dX7_worthiest_73 : decode cX7_worthiest 73 = .ok (.getfield 21, 3) := dk_180 0 21 (dk_at dksX7_worthiest_3 1 rfl rfl)
theorem dX7_worthiest_76 : decode cX7_worthiest 76 = .ok (.iload_n 3, 1) := dk_29 (dk_at dksX7_worthiest_3 4 rfl rfl)
theorem dX7_worthiest_77 : decode cX7_worthiest 77 = .ok (.iaload, 1) := dk_46 (dk_at dksX7_worthiest_3 5 rfl rfl)
theorem dX7_worthiest_78 : decode cX7_worthiest 78 = .ok (.istore_n 2, 1) := dk_61 (dk_at dksX7_worthiest_3 6 rfl rfl)
theorem dX7_worthiest_79 : decode cX7_worthiest 79 = .ok (.iload_n 3, 1) := dk_29 (dk_at dksX7_worthiest_3 7 rfl rfl)
theorem dX7_worthiest_80 : decode cX7_worthiest 80 = .ok (.istore_n 1, 1) := dk_60 (dk_at dksX7_worthiest_3 8 rfl rfl)
theorem dX7_worthiest_81 : decode cX7_worthiest 81 = .ok (.iinc 3 1, 3) := dk_132 3 1 (dk_at dksX7_worthiest_3 9 rfl rfl)
theorem dX7_worthiest_84 : decode cX7_worthiest 84 = .ok (.goto (-55), 3) := dk_167 255 201 (dk_at dksX7_worthiest_3 12 rfl rfl)
theorem dX7_worthiest_87 : decode cX7_worthiest 87 = .ok (.aload_n 0, 1) := dk_42 (dk_at dksX7_worthiest_3 15 rfl rfl)
theorem dX7_worthiest_88 : decode cX7_worthiest 88 = .ok (.iload_n 1, 1) := dk_27 (dk_at dksX7_worthiest_3 16 rfl rfl)
theorem dX7_worthiest_89 : decode cX7_worthiest 89 = .ok (.invokevirtual 61, 3) := dk_182 0 61 (dk_at dksX7_worthiest_3 17 rfl rfl)
theorem dX7_worthiest_92 : decode cX7_worthiest 92 = .ok (.ireturn, 1) := dk_172 (dk_at dksX7_worthiest_3 20 rfl rfl)
abbrev cX7_plot : ByteArray := prog_14_method_68_code
def yX7_plot : MethodName := ⟨RX7, "plot", "(II)I"⟩
def dkwX7_plot_6 : List UInt8 := [132, 4, 1, 167, 255, 173, 42, 29, 182, 0, 61, 172]
abbrev dktX7_plot_6 : List UInt8 := dkwX7_plot_6 ++ []
def dkwX7_plot_5 : List UInt8 := [184, 1, 85, 161, 0, 6, 167, 0, 17, 42, 27, 21, 4, 182, 1, 50, 28, 160, 0, 6, 21, 4, 62]
abbrev dktX7_plot_5 : List UInt8 := dkwX7_plot_5 ++ dktX7_plot_6
def dkwX7_plot_4 : List UInt8 := [153, 0, 47, 21, 4, 28, 184, 0, 235, 154, 0, 38, 29, 16, 254, 159, 0, 18, 21, 4, 184, 1, 85, 29]
abbrev dktX7_plot_4 : List UInt8 := dkwX7_plot_4 ++ dktX7_plot_5
def dkwX7_plot_3 : List UInt8 := [163, 0, 77, 21, 4, 42, 180, 0, 17, 16, 42, 46, 2, 130, 126, 154, 0, 56, 21, 4, 27, 184, 0, 235]
abbrev dktX7_plot_3 : List UInt8 := dkwX7_plot_3 ++ dktX7_plot_4
def dkwX7_plot_2 : List UInt8 := [182, 0, 57, 172, 42, 182, 1, 76, 16, 254, 62, 3, 54, 4, 21, 4, 42, 180, 0, 17, 16, 42, 46]
abbrev dktX7_plot_2 : List UInt8 := dkwX7_plot_2 ++ dktX7_plot_3
def dkwX7_plot_1 : List UInt8 := [184, 0, 235, 153, 0, 17, 42, 180, 0, 17, 16, 42, 46, 28, 184, 0, 235, 154, 0, 9, 42, 4]
abbrev dktX7_plot_1 : List UInt8 := dkwX7_plot_1 ++ dktX7_plot_2
def dkwX7_plot_0 : List UInt8 := [42, 3, 181, 0, 51, 42, 27, 28, 182, 1, 70, 153, 0, 31, 42, 180, 0, 17, 16, 42, 46, 27]
abbrev dktX7_plot_0 : List UInt8 := dkwX7_plot_0 ++ dktX7_plot_1
theorem dksX7_plot_0 : cX7_plot.data.toList.drop 0 = dktX7_plot_0 := by decide +kernel
theorem dksX7_plot_1 : cX7_plot.data.toList.drop 22 = dktX7_plot_1 := dk_seg dksX7_plot_0 22 rfl rfl
theorem dksX7_plot_2 : cX7_plot.data.toList.drop 44 = dktX7_plot_2 := dk_seg dksX7_plot_1 22 rfl rfl
theorem dksX7_plot_3 : cX7_plot.data.toList.drop 67 = dktX7_plot_3 := dk_seg dksX7_plot_2 23 rfl rfl
theorem dksX7_plot_4 : cX7_plot.data.toList.drop 91 = dktX7_plot_4 := dk_seg dksX7_plot_3 24 rfl rfl
theorem dksX7_plot_5 : cX7_plot.data.toList.drop 115 = dktX7_plot_5 := dk_seg dksX7_plot_4 24 rfl rfl
theorem dksX7_plot_6 : cX7_plot.data.toList.drop 138 = dktX7_plot_6 := dk_seg dksX7_plot_5 23 rfl rfl
theorem dX7_plot_0 : decode cX7_plot 0 = .ok (.aload_n 0, 1) := dk_42 (dk_at dksX7_plot_0 0 rfl rfl)
theorem dX7_plot_1 : decode cX7_plot 1 = .ok (.iconst 0, 1) := dk_3 (dk_at dksX7_plot_0 1 rfl rfl)
theorem dX7_plot_2 : decode cX7_plot 2 = .ok (.putfield 51, 3) := dk_181 0 51 (dk_at dksX7_plot_0 2 rfl rfl)
theorem dX7_plot_5 : decode cX7_plot 5 = .ok (.aload_n 0, 1) := dk_42 (dk_at dksX7_plot_0 5 rfl rfl)
theorem dX7_plot_6 : decode cX7_plot 6 = .ok (.iload_n 1, 1) := dk_27 (dk_at dksX7_plot_0 6 rfl rfl)
theorem dX7_plot_7 : decode cX7_plot 7 = .ok (.iload_n 2, 1) := dk_28 (dk_at dksX7_plot_0 7 rfl rfl)
theorem dX7_plot_8 : decode cX7_plot 8 = .ok (.invokevirtual 326, 3) := dk_182 1 70 (dk_at dksX7_plot_0 8 rfl rfl)
theorem dX7_plot_11 : decode cX7_plot 11 = .ok (.ifCond .eq 31, 3) := dk_153 0 31 (dk_at dksX7_plot_0 11 rfl rfl)
theorem dX7_plot_14 : decode cX7_plot 14 = .ok (.aload_n 0, 1) := dk_42 (dk_at dksX7_plot_0 14 rfl rfl)
theorem dX7_plot_15 : decode cX7_plot 15 = .ok (.getfield 17, 3) := dk_180 0 17 (dk_at dksX7_plot_0 15 rfl rfl)
theorem dX7_plot_18 : decode cX7_plot 18 = .ok (.bipush 42, 2) := dk_16 42 (dk_at dksX7_plot_0 18 rfl rfl)
theorem dX7_plot_20 : decode cX7_plot 20 = .ok (.iaload, 1) := dk_46 (dk_at dksX7_plot_0 20 rfl rfl)
theorem dX7_plot_21 : decode cX7_plot 21 = .ok (.iload_n 1, 1) := dk_27 (dk_at dksX7_plot_0 21 rfl rfl)
theorem dX7_plot_22 : decode cX7_plot 22 = .ok (.invokestatic 235, 3) := dk_184 0 235 (dk_at dksX7_plot_1 0 rfl rfl)
theorem dX7_plot_25 : decode cX7_plot 25 = .ok (.ifCond .eq 17, 3) := dk_153 0 17 (dk_at dksX7_plot_1 3 rfl rfl)
theorem dX7_plot_28 : decode cX7_plot 28 = .ok (.aload_n 0, 1) := dk_42 (dk_at dksX7_plot_1 6 rfl rfl)
theorem dX7_plot_29 : decode cX7_plot 29 = .ok (.getfield 17, 3) := dk_180 0 17 (dk_at dksX7_plot_1 7 rfl rfl)
theorem dX7_plot_32 : decode cX7_plot 32 = .ok (.bipush 42, 2) := dk_16 42 (dk_at dksX7_plot_1 10 rfl rfl)
theorem dX7_plot_34 : decode cX7_plot 34 = .ok (.iaload, 1) := dk_46 (dk_at dksX7_plot_1 12 rfl rfl)
theorem dX7_plot_35 : decode cX7_plot 35 = .ok (.iload_n 2, 1) := dk_28 (dk_at dksX7_plot_1 13 rfl rfl)
theorem dX7_plot_36 : decode cX7_plot 36 = .ok (.invokestatic 235, 3) := dk_184 0 235 (dk_at dksX7_plot_1 14 rfl rfl)
theorem dX7_plot_39 : decode cX7_plot 39 = .ok (.ifCond .ne 9, 3) := dk_154 0 9 (dk_at dksX7_plot_1 17 rfl rfl)
theorem dX7_plot_42 : decode cX7_plot 42 = .ok (.aload_n 0, 1) := dk_42 (dk_at dksX7_plot_1 20 rfl rfl)
theorem dX7_plot_43 : decode cX7_plot 43 = .ok (.iconst 1, 1) := dk_4 (dk_at dksX7_plot_1 21 rfl rfl)
theorem dX7_plot_44 : decode cX7_plot 44 = .ok (.invokevirtual 57, 3) := dk_182 0 57 (dk_at dksX7_plot_2 0 rfl rfl)
theorem dX7_plot_47 : decode cX7_plot 47 = .ok (.ireturn, 1) := dk_172 (dk_at dksX7_plot_2 3 rfl rfl)
theorem dX7_plot_48 : decode cX7_plot 48 = .ok (.aload_n 0, 1) := dk_42 (dk_at dksX7_plot_2 4 rfl rfl)
theorem dX7_plot_49 : decode cX7_plot 49 = .ok (.invokevirtual 332, 3) := dk_182 1 76 (dk_at dksX7_plot_2 5 rfl rfl)
theorem dX7_plot_52 : decode cX7_plot 52 = .ok (.bipush (-2), 2) := dk_16 254 (dk_at dksX7_plot_2 8 rfl rfl)
theorem dX7_plot_54 : decode cX7_plot 54 = .ok (.istore_n 3, 1) := dk_62 (dk_at dksX7_plot_2 10 rfl rfl)
theorem dX7_plot_55 : decode cX7_plot 55 = .ok (.iconst 0, 1) := dk_3 (dk_at dksX7_plot_2 11 rfl rfl)
theorem dX7_plot_56 : decode cX7_plot 56 = .ok (.istore 4, 2) := dk_54 4 (dk_at dksX7_plot_2 12 rfl rfl)
theorem dX7_plot_58 : decode cX7_plot 58 = .ok (.iload 4, 2) := dk_21 4 (dk_at dksX7_plot_2 14 rfl rfl)
theorem dX7_plot_60 : decode cX7_plot 60 = .ok (.aload_n 0, 1) := dk_42 (dk_at dksX7_plot_2 16 rfl rfl)
theorem dX7_plot_61 : decode cX7_plot 61 = .ok (.getfield 17, 3) := dk_180 0 17 (dk_at dksX7_plot_2 17 rfl rfl)
theorem dX7_plot_64 : decode cX7_plot 64 = .ok (.bipush 42, 2) := dk_16 42 (dk_at dksX7_plot_2 20 rfl rfl)
theorem dX7_plot_66 : decode cX7_plot 66 = .ok (.iaload, 1) := dk_46 (dk_at dksX7_plot_2 22 rfl rfl)
theorem dX7_plot_67 : decode cX7_plot 67 = .ok (.if_icmp .gt 77, 3) := dk_163 0 77 (dk_at dksX7_plot_3 0 rfl rfl)
theorem dX7_plot_70 : decode cX7_plot 70 = .ok (.iload 4, 2) := dk_21 4 (dk_at dksX7_plot_3 3 rfl rfl)
theorem dX7_plot_72 : decode cX7_plot 72 = .ok (.aload_n 0, 1) := dk_42 (dk_at dksX7_plot_3 5 rfl rfl)
theorem dX7_plot_73 : decode cX7_plot 73 = .ok (.getfield 17, 3) := dk_180 0 17 (dk_at dksX7_plot_3 6 rfl rfl)
theorem dX7_plot_76 : decode cX7_plot 76 = .ok (.bipush 42, 2) := dk_16 42 (dk_at dksX7_plot_3 9 rfl rfl)
theorem dX7_plot_78 : decode cX7_plot 78 = .ok (.iaload, 1) := dk_46 (dk_at dksX7_plot_3 11 rfl rfl)
theorem dX7_plot_79 : decode cX7_plot 79 = .ok (.iconst (-1), 1) := dk_2 (dk_at dksX7_plot_3 12 rfl rfl)
theorem dX7_plot_80 : decode cX7_plot 80 = .ok (.ixor, 1) := dk_130 (dk_at dksX7_plot_3 13 rfl rfl)
theorem dX7_plot_81 : decode cX7_plot 81 = .ok (.iand, 1) := dk_126 (dk_at dksX7_plot_3 14 rfl rfl)
theorem dX7_plot_82 : decode cX7_plot 82 = .ok (.ifCond .ne 56, 3) := dk_154 0 56 (dk_at dksX7_plot_3 15 rfl rfl)
theorem dX7_plot_85 : decode cX7_plot 85 = .ok (.iload 4, 2) := dk_21 4 (dk_at dksX7_plot_3 18 rfl rfl)
theorem dX7_plot_87 : decode cX7_plot 87 = .ok (.iload_n 1, 1) := dk_27 (dk_at dksX7_plot_3 20 rfl rfl)
theorem dX7_plot_88 : decode cX7_plot 88 = .ok (.invokestatic 235, 3) := dk_184 0 235 (dk_at dksX7_plot_3 21 rfl rfl)
theorem dX7_plot_91 : decode cX7_plot 91 = .ok (.ifCond .eq 47, 3) := dk_153 0 47 (dk_at dksX7_plot_4 0 rfl rfl)
theorem dX7_plot_94 : decode cX7_plot 94 = .ok (.iload 4, 2) := dk_21 4 (dk_at dksX7_plot_4 3 rfl rfl)
theorem dX7_plot_96 : decode cX7_plot 96 = .ok (.iload_n 2, 1) := dk_28 (dk_at dksX7_plot_4 5 rfl rfl)
theorem dX7_plot_97 : decode cX7_plot 97 = .ok (.invokestatic 235, 3) := dk_184 0 235 (dk_at dksX7_plot_4 6 rfl rfl)
theorem dX7_plot_100 : decode cX7_plot 100 = .ok (.ifCond .ne 38, 3) := dk_154 0 38 (dk_at dksX7_plot_4 9 rfl rfl)
theorem dX7_plot_103 : decode cX7_plot 103 = .ok (.iload_n 3, 1) := dk_29 (dk_at dksX7_plot_4 12 rfl rfl)
theorem dX7_plot_104 : decode cX7_plot 104 = .ok (.bipush (-2), 2) := dk_16 254 (dk_at dksX7_plot_4 13 rfl rfl)
theorem dX7_plot_106 : decode cX7_plot 106 = .ok (.if_icmp .eq 18, 3) := dk_159 0 18 (dk_at dksX7_plot_4 15 rfl rfl)
theorem dX7_plot_109 : decode cX7_plot 109 = .ok (.iload 4, 2) := dk_21 4 (dk_at dksX7_plot_4 18 rfl rfl)
theorem dX7_plot_111 : decode cX7_plot 111 = .ok (.invokestatic 341, 3) := dk_184 1 85 (dk_at dksX7_plot_4 20 rfl rfl)
theorem dX7_plot_114 : decode cX7_plot 114 = .ok (.iload_n 3, 1) := dk_29 (dk_at dksX7_plot_4 23 rfl rfl)
theorem dX7_plot_115 : decode cX7_plot 115 = .ok (.invokestatic 341, 3) := dk_184 1 85 (dk_at dksX7_plot_5 0 rfl rfl)
theorem dX7_plot_118 : decode cX7_plot 118 = .ok (.if_icmp .lt 6, 3) := dk_161 0 6 (dk_at dksX7_plot_5 3 rfl rfl)
theorem dX7_plot_121 : decode cX7_plot 121 = .ok (.goto 17, 3) := dk_167 0 17 (dk_at dksX7_plot_5 6 rfl rfl)
theorem dX7_plot_124 : decode cX7_plot 124 = .ok (.aload_n 0, 1) := dk_42 (dk_at dksX7_plot_5 9 rfl rfl)
theorem dX7_plot_125 : decode cX7_plot 125 = .ok (.iload_n 1, 1) := dk_27 (dk_at dksX7_plot_5 10 rfl rfl)
theorem dX7_plot_126 : decode cX7_plot 126 = .ok (.iload 4, 2) := dk_21 4 (dk_at dksX7_plot_5 11 rfl rfl)
theorem dX7_plot_128 : decode cX7_plot 128 = .ok (.invokevirtual 306, 3) := dk_182 1 50 (dk_at dksX7_plot_5 13 rfl rfl)
theorem dX7_plot_131 : decode cX7_plot 131 = .ok (.iload_n 2, 1) := dk_28 (dk_at dksX7_plot_5 16 rfl rfl)
theorem dX7_plot_132 : decode cX7_plot 132 = .ok (.if_icmp .ne 6, 3) := dk_160 0 6 (dk_at dksX7_plot_5 17 rfl rfl)
theorem dX7_plot_135 : decode cX7_plot 135 = .ok (.iload 4, 2) := dk_21 4 (dk_at dksX7_plot_5 20 rfl rfl)
theorem dX7_plot_137 : decode cX7_plot 137 = .ok (.istore_n 3, 1) := dk_62 (dk_at dksX7_plot_5 22 rfl rfl)
theorem dX7_plot_138 : decode cX7_plot 138 = .ok (.iinc 4 1, 3) := dk_132 4 1 (dk_at dksX7_plot_6 0 rfl rfl)
theorem dX7_plot_141 : decode cX7_plot 141 = .ok (.goto (-83), 3) := dk_167 255 173 (dk_at dksX7_plot_6 3 rfl rfl)
theorem dX7_plot_144 : decode cX7_plot 144 = .ok (.aload_n 0, 1) := dk_42 (dk_at dksX7_plot_6 6 rfl rfl)
theorem dX7_plot_145 : decode cX7_plot 145 = .ok (.iload_n 3, 1) := dk_29 (dk_at dksX7_plot_6 7 rfl rfl)
theorem dX7_plot_146 : decode cX7_plot 146 = .ok (.invokevirtual 61, 3) := dk_182 0 61 (dk_at dksX7_plot_6 8 rfl rfl)
theorem dX7_plot_149 : decode cX7_plot 149 = .ok (.ireturn, 1) := dk_172 (dk_at dksX7_plot_6 11 rfl rfl)
abbrev cX7_bits : ByteArray := prog_14_method_10_code
def yX7_bits : MethodName := ⟨RX7, "bits", "(I)I"⟩
def dkwX7_bits_0 : List UInt8 := [3, 60, 26, 61, 28, 153, 0, 15, 132, 1, 1, 28, 28, 4, 100, 126, 61, 167, 255, 243, 27, 172]
abbrev dktX7_bits_0 : List UInt8 := dkwX7_bits_0 ++ []
theorem dksX7_bits_0 : cX7_bits.data.toList.drop 0 = dktX7_bits_0 := by decide +kernel
theorem dX7_bits_0 : decode cX7_bits 0 = .ok (.iconst 0, 1) := dk_3 (dk_at dksX7_bits_0 0 rfl rfl)
theorem dX7_bits_1 : decode cX7_bits 1 = .ok (.istore_n 1, 1) := dk_60 (dk_at dksX7_bits_0 1 rfl rfl)
theorem dX7_bits_2 : decode cX7_bits 2 = .ok (.iload_n 0, 1) := dk_26 (dk_at dksX7_bits_0 2 rfl rfl)
theorem dX7_bits_3 : decode cX7_bits 3 = .ok (.istore_n 2, 1) := dk_61 (dk_at dksX7_bits_0 3 rfl rfl)
theorem dX7_bits_4 : decode cX7_bits 4 = .ok (.iload_n 2, 1) := dk_28 (dk_at dksX7_bits_0 4 rfl rfl)
theorem dX7_bits_5 : decode cX7_bits 5 = .ok (.ifCond .eq 15, 3) := dk_153 0 15 (dk_at dksX7_bits_0 5 rfl rfl)
theorem dX7_bits_8 : decode cX7_bits 8 = .ok (.iinc 1 1, 3) := dk_132 1 1 (dk_at dksX7_bits_0 8 rfl rfl)
theorem dX7_bits_11 : decode cX7_bits 11 = .ok (.iload_n 2, 1) := dk_28 (dk_at dksX7_bits_0 11 rfl rfl)
theorem dX7_bits_12 : decode cX7_bits 12 = .ok (.iload_n 2, 1) := dk_28 (dk_at dksX7_bits_0 12 rfl rfl)
theorem dX7_bits_13 : decode cX7_bits 13 = .ok (.iconst 1, 1) := dk_4 (dk_at dksX7_bits_0 13 rfl rfl)
theorem dX7_bits_14 : decode cX7_bits 14 = .ok (.isub, 1) := dk_100 (dk_at dksX7_bits_0 14 rfl rfl)
theorem dX7_bits_15 : decode cX7_bits 15 = .ok (.iand, 1) := dk_126 (dk_at dksX7_bits_0 15 rfl rfl)
theorem dX7_bits_16 : decode cX7_bits 16 = .ok (.istore_n 2, 1) := dk_61 (dk_at dksX7_bits_0 16 rfl rfl)
theorem dX7_bits_17 : decode cX7_bits 17 = .ok (.goto (-13), 3) := dk_167 255 243 (dk_at dksX7_bits_0 17 rfl rfl)
theorem dX7_bits_20 : decode cX7_bits 20 = .ok (.iload_n 1, 1) := dk_27 (dk_at dksX7_bits_0 20 rfl rfl)
theorem dX7_bits_21 : decode cX7_bits 21 = .ok (.ireturn, 1) := dk_172 (dk_at dksX7_bits_0 21 rfl rfl)
abbrev cX7_mean : ByteArray := prog_14_method_72_code
def yX7_mean : MethodName := ⟨RX7, "mean", "(IZ)J"⟩
def dkwX7_mean_2 : List UInt8 := [154, 0, 8, 42, 10, 181, 1, 88, 42, 33, 42, 180, 1, 88, 28, 182, 1, 103, 173]
abbrev dktX7_mean_2 : List UInt8 := dkwX7_mean_2 ++ []
def dkwX7_mean_1 : List UInt8 := [42, 27, 182, 1, 38, 153, 0, 11, 42, 27, 182, 1, 100, 167, 0, 4, 9, 66, 42, 27, 182, 1, 38]
abbrev dktX7_mean_1 : List UInt8 := dkwX7_mean_1 ++ dktX7_mean_2
def dkwX7_mean_0 : List UInt8 := [42, 3, 181, 0, 51, 42, 27, 182, 1, 35, 154, 0, 10, 42, 4, 182, 0, 57, 133, 173, 42, 182, 1, 59]
abbrev dktX7_mean_0 : List UInt8 := dkwX7_mean_0 ++ dktX7_mean_1
theorem dksX7_mean_0 : cX7_mean.data.toList.drop 0 = dktX7_mean_0 := by decide +kernel
theorem dksX7_mean_1 : cX7_mean.data.toList.drop 24 = dktX7_mean_1 := dk_seg dksX7_mean_0 24 rfl rfl
theorem dksX7_mean_2 : cX7_mean.data.toList.drop 47 = dktX7_mean_2 := dk_seg dksX7_mean_1 23 rfl rfl
theorem dX7_mean_0 : decode cX7_mean 0 = .ok (.aload_n 0, 1) := dk_42 (dk_at dksX7_mean_0 0 rfl rfl)
theorem dX7_mean_1 : decode cX7_mean 1 = .ok (.iconst 0, 1) := dk_3 (dk_at dksX7_mean_0 1 rfl rfl)
theorem dX7_mean_2 : decode cX7_mean 2 = .ok (.putfield 51, 3) := dk_181 0 51 (dk_at dksX7_mean_0 2 rfl rfl)
theorem dX7_mean_5 : decode cX7_mean 5 = .ok (.aload_n 0, 1) := dk_42 (dk_at dksX7_mean_0 5 rfl rfl)
theorem dX7_mean_6 : decode cX7_mean 6 = .ok (.iload_n 1, 1) := dk_27 (dk_at dksX7_mean_0 6 rfl rfl)
theorem dX7_mean_7 : decode cX7_mean 7 = .ok (.invokevirtual 291, 3) := dk_182 1 35 (dk_at dksX7_mean_0 7 rfl rfl)
theorem dX7_mean_10 : decode cX7_mean 10 = .ok (.ifCond .ne 10, 3) := dk_154 0 10 (dk_at dksX7_mean_0 10 rfl rfl)
theorem dX7_mean_13 : decode cX7_mean 13 = .ok (.aload_n 0, 1) := dk_42 (dk_at dksX7_mean_0 13 rfl rfl)
theorem dX7_mean_14 : decode cX7_mean 14 = .ok (.iconst 1, 1) := dk_4 (dk_at dksX7_mean_0 14 rfl rfl)
theorem dX7_mean_15 : decode cX7_mean 15 = .ok (.invokevirtual 57, 3) := dk_182 0 57 (dk_at dksX7_mean_0 15 rfl rfl)
theorem dX7_mean_18 : decode cX7_mean 18 = .ok (.i2l, 1) := dk_133 (dk_at dksX7_mean_0 18 rfl rfl)
theorem dX7_mean_19 : decode cX7_mean 19 = .ok (.lreturn, 1) := dk_173 (dk_at dksX7_mean_0 19 rfl rfl)
theorem dX7_mean_20 : decode cX7_mean 20 = .ok (.aload_n 0, 1) := dk_42 (dk_at dksX7_mean_0 20 rfl rfl)
theorem dX7_mean_21 : decode cX7_mean 21 = .ok (.invokevirtual 315, 3) := dk_182 1 59 (dk_at dksX7_mean_0 21 rfl rfl)
theorem dX7_mean_24 : decode cX7_mean 24 = .ok (.aload_n 0, 1) := dk_42 (dk_at dksX7_mean_1 0 rfl rfl)
theorem dX7_mean_25 : decode cX7_mean 25 = .ok (.iload_n 1, 1) := dk_27 (dk_at dksX7_mean_1 1 rfl rfl)
theorem dX7_mean_26 : decode cX7_mean 26 = .ok (.invokevirtual 294, 3) := dk_182 1 38 (dk_at dksX7_mean_1 2 rfl rfl)
theorem dX7_mean_29 : decode cX7_mean 29 = .ok (.ifCond .eq 11, 3) := dk_153 0 11 (dk_at dksX7_mean_1 5 rfl rfl)
theorem dX7_mean_32 : decode cX7_mean 32 = .ok (.aload_n 0, 1) := dk_42 (dk_at dksX7_mean_1 8 rfl rfl)
theorem dX7_mean_33 : decode cX7_mean 33 = .ok (.iload_n 1, 1) := dk_27 (dk_at dksX7_mean_1 9 rfl rfl)
theorem dX7_mean_34 : decode cX7_mean 34 = .ok (.invokevirtual 356, 3) := dk_182 1 100 (dk_at dksX7_mean_1 10 rfl rfl)
theorem dX7_mean_37 : decode cX7_mean 37 = .ok (.goto 4, 3) := dk_167 0 4 (dk_at dksX7_mean_1 13 rfl rfl)
theorem dX7_mean_40 : decode cX7_mean 40 = .ok (.lconst 0, 1) := dk_9 (dk_at dksX7_mean_1 16 rfl rfl)
theorem dX7_mean_41 : decode cX7_mean 41 = .ok (.lstore_n 3, 1) := dk_66 (dk_at dksX7_mean_1 17 rfl rfl)
theorem dX7_mean_42 : decode cX7_mean 42 = .ok (.aload_n 0, 1) := dk_42 (dk_at dksX7_mean_1 18 rfl rfl)
theorem dX7_mean_43 : decode cX7_mean 43 = .ok (.iload_n 1, 1) := dk_27 (dk_at dksX7_mean_1 19 rfl rfl)
theorem dX7_mean_44 : decode cX7_mean 44 = .ok (.invokevirtual 294, 3) := dk_182 1 38 (dk_at dksX7_mean_1 20 rfl rfl)
theorem dX7_mean_47 : decode cX7_mean 47 = .ok (.ifCond .ne 8, 3) := dk_154 0 8 (dk_at dksX7_mean_2 0 rfl rfl)
theorem dX7_mean_50 : decode cX7_mean 50 = .ok (.aload_n 0, 1) := dk_42 (dk_at dksX7_mean_2 3 rfl rfl)
theorem dX7_mean_51 : decode cX7_mean 51 = .ok (.lconst 1, 1) := dk_10 (dk_at dksX7_mean_2 4 rfl rfl)
theorem dX7_mean_52 : decode cX7_mean 52 = .ok (.putfield 344, 3) := dk_181 1 88 (dk_at dksX7_mean_2 5 rfl rfl)
theorem dX7_mean_55 : decode cX7_mean 55 = .ok (.aload_n 0, 1) := dk_42 (dk_at dksX7_mean_2 8 rfl rfl)
theorem dX7_mean_56 : decode cX7_mean 56 = .ok (.lload_n 3, 1) := dk_33 (dk_at dksX7_mean_2 9 rfl rfl)
theorem dX7_mean_57 : decode cX7_mean 57 = .ok (.aload_n 0, 1) := dk_42 (dk_at dksX7_mean_2 10 rfl rfl)
theorem dX7_mean_58 : decode cX7_mean 58 = .ok (.getfield 344, 3) := dk_180 1 88 (dk_at dksX7_mean_2 11 rfl rfl)
theorem dX7_mean_61 : decode cX7_mean 61 = .ok (.iload_n 2, 1) := dk_28 (dk_at dksX7_mean_2 14 rfl rfl)
theorem dX7_mean_62 : decode cX7_mean 62 = .ok (.invokevirtual 359, 3) := dk_182 1 103 (dk_at dksX7_mean_2 15 rfl rfl)
theorem dX7_mean_65 : decode cX7_mean 65 = .ok (.lreturn, 1) := dk_173 (dk_at dksX7_mean_2 18 rfl rfl)
abbrev cX7_meanOf : ByteArray := prog_14_method_71_code
def yX7_meanOf : MethodName := ⟨RX7, "meanOf", "(I)J"⟩
def dkwX7_meanOf_3 : List UInt8 := [42, 180, 0, 33, 27, 46, 133, 105, 97, 65, 132, 4, 1, 167, 255, 186, 32, 173]
abbrev dktX7_meanOf_3 : List UInt8 := dkwX7_meanOf_3 ++ []
def dkwX7_meanOf_2 : List UInt8 := [182, 1, 96, 55, 5, 22, 5, 9, 148, 154, 0, 6, 167, 0, 22, 42, 21, 4, 182, 1, 56, 32, 22, 5]
abbrev dktX7_meanOf_2 : List UInt8 := dkwX7_meanOf_2 ++ dktX7_meanOf_3
def dkwX7_meanOf_1 : List UInt8 := [163, 0, 64, 21, 4, 42, 180, 0, 21, 16, 42, 46, 2, 130, 126, 153, 0, 6, 167, 0, 40, 42, 21, 4]
abbrev dktX7_meanOf_1 : List UInt8 := dkwX7_meanOf_1 ++ dktX7_meanOf_2
def dkwX7_meanOf_0 : List UInt8 := [9, 65, 42, 182, 1, 53, 42, 182, 1, 93, 3, 54, 4, 21, 4, 42, 180, 0, 21, 16, 42, 46]
abbrev dktX7_meanOf_0 : List UInt8 := dkwX7_meanOf_0 ++ dktX7_meanOf_1
theorem dksX7_meanOf_0 : cX7_meanOf.data.toList.drop 0 = dktX7_meanOf_0 := by decide +kernel
theorem dksX7_meanOf_1 : cX7_meanOf.data.toList.drop 22 = dktX7_meanOf_1 := dk_seg dksX7_meanOf_0 22 rfl rfl
theorem dksX7_meanOf_2 : cX7_meanOf.data.toList.drop 46 = dktX7_meanOf_2 := dk_seg dksX7_meanOf_1 24 rfl rfl
theorem dksX7_meanOf_3 : cX7_meanOf.data.toList.drop 70 = dktX7_meanOf_3 := dk_seg dksX7_meanOf_2 24 rfl rfl
theorem dX7_meanOf_0 : decode cX7_meanOf 0 = .ok (.lconst 0, 1) := dk_9 (dk_at dksX7_meanOf_0 0 rfl rfl)
theorem dX7_meanOf_1 : decode cX7_meanOf 1 = .ok (.lstore_n 2, 1) := dk_65 (dk_at dksX7_meanOf_0 1 rfl rfl)
theorem dX7_meanOf_2 : decode cX7_meanOf 2 = .ok (.aload_n 0, 1) := dk_42 (dk_at dksX7_meanOf_0 2 rfl rfl)
theorem dX7_meanOf_3 : decode cX7_meanOf 3 = .ok (.invokevirtual 309, 3) := dk_182 1 53 (dk_at dksX7_meanOf_0 3 rfl rfl)
theorem dX7_meanOf_6 : decode cX7_meanOf 6 = .ok (.aload_n 0, 1) := dk_42 (dk_at dksX7_meanOf_0 6 rfl rfl)
theorem dX7_meanOf_7 : decode cX7_meanOf 7 = .ok (.invokevirtual 349, 3) := dk_182 1 93 (dk_at dksX7_meanOf_0 7 rfl rfl)
theorem dX7_meanOf_10 : decode cX7_meanOf 10 = .ok (.iconst 0, 1) := dk_3 (dk_at dksX7_meanOf_0 10 rfl rfl)
theorem dX7_meanOf_11 : decode cX7_meanOf 11 = .ok (.istore 4, 2) := dk_54 4 (dk_at dksX7_meanOf_0 11 rfl rfl)
theorem dX7_meanOf_13 : decode cX7_meanOf 13 = .ok (.iload 4, 2) := dk_21 4 (dk_at dksX7_meanOf_0 13 rfl rfl)
theorem dX7_meanOf_15 : decode cX7_meanOf 15 = .ok (.aload_n 0, 1) := dk_42 (dk_at dksX7_meanOf_0 15 rfl rfl)
theorem dX7_meanOf_16 : decode cX7_meanOf 16 = .ok (.getfield 21, 3) := dk_180 0 21 (dk_at dksX7_meanOf_0 16 rfl rfl)
theorem dX7_meanOf_19 : decode cX7_meanOf 19 = .ok (.bipush 42, 2) := dk_16 42 (dk_at dksX7_meanOf_0 19 rfl rfl)
theorem dX7_meanOf_21 : decode cX7_meanOf 21 = .ok (.iaload, 1) := dk_46 (dk_at dksX7_meanOf_0 21 rfl rfl)
theorem dX7_meanOf_22 : decode cX7_meanOf 22 = .ok (.if_icmp .gt 64, 3) := dk_163 0 64 (dk_at dksX7_meanOf_1 0 rfl rfl)
theorem dX7_meanOf_25 : decode cX7_meanOf 25 = .ok (.iload 4, 2) := dk_21 4 (dk_at dksX7_meanOf_1 3 rfl rfl)
theorem dX7_meanOf_27 : decode cX7_meanOf 27 = .ok (.aload_n 0, 1) := dk_42 (dk_at dksX7_meanOf_1 5 rfl rfl)
theorem dX7_meanOf_28 : decode cX7_meanOf 28 = .ok (.getfield 21, 3) := dk_180 0 21 (dk_at dksX7_meanOf_1 6 rfl rfl)
theorem dX7_meanOf_31 : decode cX7_meanOf 31 = .ok (.bipush 42, 2) := dk_16 42 (dk_at dksX7_meanOf_1 9 rfl rfl)
theorem dX7_meanOf_33 : decode cX7_meanOf 33 = .ok (.iaload, 1) := dk_46 (dk_at dksX7_meanOf_1 11 rfl rfl)
theorem dX7_meanOf_34 : decode cX7_meanOf 34 = .ok (.iconst (-1), 1) := dk_2 (dk_at dksX7_meanOf_1 12 rfl rfl)
theorem dX7_meanOf_35 : decode cX7_meanOf 35 = .ok (.ixor, 1) := dk_130 (dk_at dksX7_meanOf_1 13 rfl rfl)
theorem dX7_meanOf_36 : decode cX7_meanOf 36 = .ok (.iand, 1) := dk_126 (dk_at dksX7_meanOf_1 14 rfl rfl)
theorem dX7_meanOf_37 : decode cX7_meanOf 37 = .ok (.ifCond .eq 6, 3) := dk_153 0 6 (dk_at dksX7_meanOf_1 15 rfl rfl)
theorem dX7_meanOf_40 : decode cX7_meanOf 40 = .ok (.goto 40, 3) := dk_167 0 40 (dk_at dksX7_meanOf_1 18 rfl rfl)
theorem dX7_meanOf_43 : decode cX7_meanOf 43 = .ok (.aload_n 0, 1) := dk_42 (dk_at dksX7_meanOf_1 21 rfl rfl)
theorem dX7_meanOf_44 : decode cX7_meanOf 44 = .ok (.iload 4, 2) := dk_21 4 (dk_at dksX7_meanOf_1 22 rfl rfl)
theorem dX7_meanOf_46 : decode cX7_meanOf 46 = .ok (.invokevirtual 352, 3) := dk_182 1 96 (dk_at dksX7_meanOf_2 0 rfl rfl)
theorem dX7_meanOf_49 : decode cX7_meanOf 49 = .ok (.lstore 5, 2) := dk_55 5 (dk_at dksX7_meanOf_2 3 rfl rfl)
theorem dX7_meanOf_51 : decode cX7_meanOf 51 = .ok (.lload 5, 2) := dk_22 5 (dk_at dksX7_meanOf_2 5 rfl rfl)
theorem dX7_meanOf_53 : decode cX7_meanOf 53 = .ok (.lconst 0, 1) := dk_9 (dk_at dksX7_meanOf_2 7 rfl rfl)
theorem dX7_meanOf_54 : decode cX7_meanOf 54 = .ok (.lcmp, 1) := dk_148 (dk_at dksX7_meanOf_2 8 rfl rfl)
theorem dX7_meanOf_55 : decode cX7_meanOf 55 = .ok (.ifCond .ne 6, 3) := dk_154 0 6 (dk_at dksX7_meanOf_2 9 rfl rfl)
theorem dX7_meanOf_58 : decode cX7_meanOf 58 = .ok (.goto 22, 3) := dk_167 0 22 (dk_at dksX7_meanOf_2 12 rfl rfl)
theorem dX7_meanOf_61 : decode cX7_meanOf 61 = .ok (.aload_n 0, 1) := dk_42 (dk_at dksX7_meanOf_2 15 rfl rfl)
theorem dX7_meanOf_62 : decode cX7_meanOf 62 = .ok (.iload 4, 2) := dk_21 4 (dk_at dksX7_meanOf_2 16 rfl rfl)
theorem dX7_meanOf_64 : decode cX7_meanOf 64 = .ok (.invokevirtual 312, 3) := dk_182 1 56 (dk_at dksX7_meanOf_2 18 rfl rfl)
theorem dX7_meanOf_67 : decode cX7_meanOf 67 = .ok (.lload_n 2, 1) := dk_32 (dk_at dksX7_meanOf_2 21 rfl rfl)
theorem dX7_meanOf_68 : decode cX7_meanOf 68 = .ok (.lload 5, 2) := dk_22 5 (dk_at dksX7_meanOf_2 22 rfl rfl)
theorem dX7_meanOf_70 : decode cX7_meanOf 70 = .ok (.aload_n 0, 1) := dk_42 (dk_at dksX7_meanOf_3 0 rfl rfl)
theorem dX7_meanOf_71 : decode cX7_meanOf 71 = .ok (.getfield 33, 3) := dk_180 0 33 (dk_at dksX7_meanOf_3 1 rfl rfl)
theorem dX7_meanOf_74 : decode cX7_meanOf 74 = .ok (.iload_n 1, 1) := dk_27 (dk_at dksX7_meanOf_3 4 rfl rfl)
theorem dX7_meanOf_75 : decode cX7_meanOf 75 = .ok (.iaload, 1) := dk_46 (dk_at dksX7_meanOf_3 5 rfl rfl)
theorem dX7_meanOf_76 : decode cX7_meanOf 76 = .ok (.i2l, 1) := dk_133 (dk_at dksX7_meanOf_3 6 rfl rfl)
theorem dX7_meanOf_77 : decode cX7_meanOf 77 = .ok (.lmul, 1) := dk_105 (dk_at dksX7_meanOf_3 7 rfl rfl)
theorem dX7_meanOf_78 : decode cX7_meanOf 78 = .ok (.ladd, 1) := dk_97 (dk_at dksX7_meanOf_3 8 rfl rfl)
theorem dX7_meanOf_79 : decode cX7_meanOf 79 = .ok (.lstore_n 2, 1) := dk_65 (dk_at dksX7_meanOf_3 9 rfl rfl)
theorem dX7_meanOf_80 : decode cX7_meanOf 80 = .ok (.iinc 4 1, 3) := dk_132 4 1 (dk_at dksX7_meanOf_3 10 rfl rfl)
theorem dX7_meanOf_83 : decode cX7_meanOf 83 = .ok (.goto (-70), 3) := dk_167 255 186 (dk_at dksX7_meanOf_3 13 rfl rfl)
theorem dX7_meanOf_86 : decode cX7_meanOf 86 = .ok (.lload_n 2, 1) := dk_32 (dk_at dksX7_meanOf_3 16 rfl rfl)
theorem dX7_meanOf_87 : decode cX7_meanOf 87 = .ok (.lreturn, 1) := dk_173 (dk_at dksX7_meanOf_3 17 rfl rfl)
abbrev cX7_wholeOf : ByteArray := prog_14_method_70_code
def yX7_wholeOf : MethodName := ⟨RX7, "wholeOf", "()V"⟩
def dkwX7_wholeOf_2 : List UInt8 := [177]
abbrev dktX7_wholeOf_2 : List UInt8 := dkwX7_wholeOf_2 ++ []
def dkwX7_wholeOf_1 : List UInt8 := [27, 182, 1, 38, 153, 0, 9, 20, 1, 91, 167, 0, 4, 10, 105, 181, 1, 88, 132, 1, 1, 167, 255, 218]
abbrev dktX7_wholeOf_1 : List UInt8 := dkwX7_wholeOf_1 ++ dktX7_wholeOf_2
def dkwX7_wholeOf_0 : List UInt8 := [42, 10, 181, 1, 88, 3, 60, 27, 42, 180, 1, 24, 180, 0, 170, 162, 0, 33, 42, 89, 180, 1, 88, 42]
abbrev dktX7_wholeOf_0 : List UInt8 := dkwX7_wholeOf_0 ++ dktX7_wholeOf_1
theorem dksX7_wholeOf_0 : cX7_wholeOf.data.toList.drop 0 = dktX7_wholeOf_0 := by decide +kernel
theorem dksX7_wholeOf_1 : cX7_wholeOf.data.toList.drop 24 = dktX7_wholeOf_1 := dk_seg dksX7_wholeOf_0 24 rfl rfl
theorem dksX7_wholeOf_2 : cX7_wholeOf.data.toList.drop 48 = dktX7_wholeOf_2 := dk_seg dksX7_wholeOf_1 24 rfl rfl
theorem dX7_wholeOf_0 : decode cX7_wholeOf 0 = .ok (.aload_n 0, 1) := dk_42 (dk_at dksX7_wholeOf_0 0 rfl rfl)
theorem dX7_wholeOf_1 : decode cX7_wholeOf 1 = .ok (.lconst 1, 1) := dk_10 (dk_at dksX7_wholeOf_0 1 rfl rfl)
theorem dX7_wholeOf_2 : decode cX7_wholeOf 2 = .ok (.putfield 344, 3) := dk_181 1 88 (dk_at dksX7_wholeOf_0 2 rfl rfl)
theorem dX7_wholeOf_5 : decode cX7_wholeOf 5 = .ok (.iconst 0, 1) := dk_3 (dk_at dksX7_wholeOf_0 5 rfl rfl)
theorem dX7_wholeOf_6 : decode cX7_wholeOf 6 = .ok (.istore_n 1, 1) := dk_60 (dk_at dksX7_wholeOf_0 6 rfl rfl)
theorem dX7_wholeOf_7 : decode cX7_wholeOf 7 = .ok (.iload_n 1, 1) := dk_27 (dk_at dksX7_wholeOf_0 7 rfl rfl)
theorem dX7_wholeOf_8 : decode cX7_wholeOf 8 = .ok (.aload_n 0, 1) := dk_42 (dk_at dksX7_wholeOf_0 8 rfl rfl)
theorem dX7_wholeOf_9 : decode cX7_wholeOf 9 = .ok (.getfield 280, 3) := dk_180 1 24 (dk_at dksX7_wholeOf_0 9 rfl rfl)
theorem dX7_wholeOf_12 : decode cX7_wholeOf 12 = .ok (.getfield 170, 3) := dk_180 0 170 (dk_at dksX7_wholeOf_0 12 rfl rfl)
theorem dX7_wholeOf_15 : decode cX7_wholeOf 15 = .ok (.if_icmp .ge 33, 3) := dk_162 0 33 (dk_at dksX7_wholeOf_0 15 rfl rfl)
theorem dX7_wholeOf_18 : decode cX7_wholeOf 18 = .ok (.aload_n 0, 1) := dk_42 (dk_at dksX7_wholeOf_0 18 rfl rfl)
theorem dX7_wholeOf_19 : decode cX7_wholeOf 19 = .ok (.dup, 1) := dk_89 (dk_at dksX7_wholeOf_0 19 rfl rfl)
theorem dX7_wholeOf_20 : decode cX7_wholeOf 20 = .ok (.getfield 344, 3) := dk_180 1 88 (dk_at dksX7_wholeOf_0 20 rfl rfl)
theorem dX7_wholeOf_23 : decode cX7_wholeOf 23 = .ok (.aload_n 0, 1) := dk_42 (dk_at dksX7_wholeOf_0 23 rfl rfl)
theorem dX7_wholeOf_24 : decode cX7_wholeOf 24 = .ok (.iload_n 1, 1) := dk_27 (dk_at dksX7_wholeOf_1 0 rfl rfl)
theorem dX7_wholeOf_25 : decode cX7_wholeOf 25 = .ok (.invokevirtual 294, 3) := dk_182 1 38 (dk_at dksX7_wholeOf_1 1 rfl rfl)
theorem dX7_wholeOf_28 : decode cX7_wholeOf 28 = .ok (.ifCond .eq 9, 3) := dk_153 0 9 (dk_at dksX7_wholeOf_1 4 rfl rfl)
theorem dX7_wholeOf_31 : decode cX7_wholeOf 31 = .ok (.ldc2_w 347, 3) := dk_20 1 91 (dk_at dksX7_wholeOf_1 7 rfl rfl)
theorem dX7_wholeOf_34 : decode cX7_wholeOf 34 = .ok (.goto 4, 3) := dk_167 0 4 (dk_at dksX7_wholeOf_1 10 rfl rfl)
theorem dX7_wholeOf_37 : decode cX7_wholeOf 37 = .ok (.lconst 1, 1) := dk_10 (dk_at dksX7_wholeOf_1 13 rfl rfl)
theorem dX7_wholeOf_38 : decode cX7_wholeOf 38 = .ok (.lmul, 1) := dk_105 (dk_at dksX7_wholeOf_1 14 rfl rfl)
theorem dX7_wholeOf_39 : decode cX7_wholeOf 39 = .ok (.putfield 344, 3) := dk_181 1 88 (dk_at dksX7_wholeOf_1 15 rfl rfl)
theorem dX7_wholeOf_42 : decode cX7_wholeOf 42 = .ok (.iinc 1 1, 3) := dk_132 1 1 (dk_at dksX7_wholeOf_1 18 rfl rfl)
theorem dX7_wholeOf_45 : decode cX7_wholeOf 45 = .ok (.goto (-38), 3) := dk_167 255 218 (dk_at dksX7_wholeOf_1 21 rfl rfl)
theorem dX7_wholeOf_48 : decode cX7_wholeOf 48 = .ok (.return_, 1) := dk_177 (dk_at dksX7_wholeOf_2 0 rfl rfl)
abbrev cX7_partOf : ByteArray := prog_14_method_69_code
def yX7_partOf : MethodName := ⟨RX7, "partOf", "(I)J"⟩
def dkwX7_partOf_3 : List UInt8 := [167, 255, 192, 32, 173]
abbrev dktX7_partOf_3 : List UInt8 := dkwX7_partOf_3 ++ []
def dkwX7_partOf_2 : List UInt8 := [167, 0, 17, 16, 100, 42, 180, 1, 24, 180, 0, 225, 21, 4, 46, 100, 133, 105, 65, 132, 4, 1]
abbrev dktX7_partOf_2 : List UInt8 := dkwX7_partOf_2 ++ dktX7_partOf_3
def dkwX7_partOf_1 : List UInt8 := [153, 0, 43, 32, 27, 21, 4, 184, 0, 235, 153, 0, 17, 42, 180, 1, 24, 180, 0, 225, 21, 4, 46, 133]
abbrev dktX7_partOf_1 : List UInt8 := dkwX7_partOf_1 ++ dktX7_partOf_2
def dkwX7_partOf_0 : List UInt8 := [10, 65, 3, 54, 4, 21, 4, 42, 180, 1, 24, 180, 0, 170, 162, 0, 58, 42, 21, 4, 182, 1, 38]
abbrev dktX7_partOf_0 : List UInt8 := dkwX7_partOf_0 ++ dktX7_partOf_1
theorem dksX7_partOf_0 : cX7_partOf.data.toList.drop 0 = dktX7_partOf_0 := by decide +kernel
theorem dksX7_partOf_1 : cX7_partOf.data.toList.drop 23 = dktX7_partOf_1 := dk_seg dksX7_partOf_0 23 rfl rfl
theorem dksX7_partOf_2 : cX7_partOf.data.toList.drop 47 = dktX7_partOf_2 := dk_seg dksX7_partOf_1 24 rfl rfl
theorem dksX7_partOf_3 : cX7_partOf.data.toList.drop 69 = dktX7_partOf_3 := dk_seg dksX7_partOf_2 22 rfl rfl
theorem dX7_partOf_0 : decode cX7_partOf 0 = .ok (.lconst 1, 1) := dk_10 (dk_at dksX7_partOf_0 0 rfl rfl)
theorem dX7_partOf_1 : decode cX7_partOf 1 = .ok (.lstore_n 2, 1) := dk_65 (dk_at dksX7_partOf_0 1 rfl rfl)
theorem dX7_partOf_2 : decode cX7_partOf 2 = .ok (.iconst 0, 1) := dk_3 (dk_at dksX7_partOf_0 2 rfl rfl)
theorem dX7_partOf_3 : decode cX7_partOf 3 = .ok (.istore 4, 2) := dk_54 4 (dk_at dksX7_partOf_0 3 rfl rfl)
theorem dX7_partOf_5 : decode cX7_partOf 5 = .ok (.iload 4, 2) := dk_21 4 (dk_at dksX7_partOf_0 5 rfl rfl)
theorem dX7_partOf_7 : decode cX7_partOf 7 = .ok (.aload_n 0, 1) := dk_42 (dk_at dksX7_partOf_0 7 rfl rfl)
theorem dX7_partOf_8 : decode cX7_partOf 8 = .ok (.getfield 280, 3) := dk_180 1 24 (dk_at dksX7_partOf_0 8 rfl rfl)
theorem dX7_partOf_11 : decode cX7_partOf 11 = .ok (.getfield 170, 3) := dk_180 0 170 (dk_at dksX7_partOf_0 11 rfl rfl)
theorem dX7_partOf_14 : decode cX7_partOf 14 = .ok (.if_icmp .ge 58, 3) := dk_162 0 58 (dk_at dksX7_partOf_0 14 rfl rfl)
theorem dX7_partOf_17 : decode cX7_partOf 17 = .ok (.aload_n 0, 1) := dk_42 (dk_at dksX7_partOf_0 17 rfl rfl)
theorem dX7_partOf_18 : decode cX7_partOf 18 = .ok (.iload 4, 2) := dk_21 4 (dk_at dksX7_partOf_0 18 rfl rfl)
theorem dX7_partOf_20 : decode cX7_partOf 20 = .ok (.invokevirtual 294, 3) := dk_182 1 38 (dk_at dksX7_partOf_0 20 rfl rfl)
theorem dX7_partOf_23 : decode cX7_partOf 23 = .ok (.ifCond .eq 43, 3) := dk_153 0 43 (dk_at dksX7_partOf_1 0 rfl rfl)
theorem dX7_partOf_26 : decode cX7_partOf 26 = .ok (.lload_n 2, 1) := dk_32 (dk_at dksX7_partOf_1 3 rfl rfl)
theorem dX7_partOf_27 : decode cX7_partOf 27 = .ok (.iload_n 1, 1) := dk_27 (dk_at dksX7_partOf_1 4 rfl rfl)
theorem dX7_partOf_28 : decode cX7_partOf 28 = .ok (.iload 4, 2) := dk_21 4 (dk_at dksX7_partOf_1 5 rfl rfl)
theorem dX7_partOf_30 : decode cX7_partOf 30 = .ok (.invokestatic 235, 3) := dk_184 0 235 (dk_at dksX7_partOf_1 7 rfl rfl)
theorem dX7_partOf_33 : decode cX7_partOf 33 = .ok (.ifCond .eq 17, 3) := dk_153 0 17 (dk_at dksX7_partOf_1 10 rfl rfl)
theorem dX7_partOf_36 : decode cX7_partOf 36 = .ok (.aload_n 0, 1) := dk_42 (dk_at dksX7_partOf_1 13 rfl rfl)
theorem dX7_partOf_37 : decode cX7_partOf 37 = .ok (.getfield 280, 3) := dk_180 1 24 (dk_at dksX7_partOf_1 14 rfl rfl)
theorem dX7_partOf_40 : decode cX7_partOf 40 = .ok (.getfield 225, 3) := dk_180 0 225 (dk_at dksX7_partOf_1 17 rfl rfl)
theorem dX7_partOf_43 : decode cX7_partOf 43 = .ok (.iload 4, 2) := dk_21 4 (dk_at dksX7_partOf_1 20 rfl rfl)
theorem dX7_partOf_45 : decode cX7_partOf 45 = .ok (.iaload, 1) := dk_46 (dk_at dksX7_partOf_1 22 rfl rfl)
theorem dX7_partOf_46 : decode cX7_partOf 46 = .ok (.i2l, 1) := dk_133 (dk_at dksX7_partOf_1 23 rfl rfl)
theorem dX7_partOf_47 : decode cX7_partOf 47 = .ok (.goto 17, 3) := dk_167 0 17 (dk_at dksX7_partOf_2 0 rfl rfl)
theorem dX7_partOf_50 : decode cX7_partOf 50 = .ok (.bipush 100, 2) := dk_16 100 (dk_at dksX7_partOf_2 3 rfl rfl)
theorem dX7_partOf_52 : decode cX7_partOf 52 = .ok (.aload_n 0, 1) := dk_42 (dk_at dksX7_partOf_2 5 rfl rfl)
theorem dX7_partOf_53 : decode cX7_partOf 53 = .ok (.getfield 280, 3) := dk_180 1 24 (dk_at dksX7_partOf_2 6 rfl rfl)
theorem dX7_partOf_56 : decode cX7_partOf 56 = .ok (.getfield 225, 3) := dk_180 0 225 (dk_at dksX7_partOf_2 9 rfl rfl)
theorem dX7_partOf_59 : decode cX7_partOf 59 = .ok (.iload 4, 2) := dk_21 4 (dk_at dksX7_partOf_2 12 rfl rfl)
theorem dX7_partOf_61 : decode cX7_partOf 61 = .ok (.iaload, 1) := dk_46 (dk_at dksX7_partOf_2 14 rfl rfl)
theorem dX7_partOf_62 : decode cX7_partOf 62 = .ok (.isub, 1) := dk_100 (dk_at dksX7_partOf_2 15 rfl rfl)
theorem dX7_partOf_63 : decode cX7_partOf 63 = .ok (.i2l, 1) := dk_133 (dk_at dksX7_partOf_2 16 rfl rfl)
theorem dX7_partOf_64 : decode cX7_partOf 64 = .ok (.lmul, 1) := dk_105 (dk_at dksX7_partOf_2 17 rfl rfl)
theorem dX7_partOf_65 : decode cX7_partOf 65 = .ok (.lstore_n 2, 1) := dk_65 (dk_at dksX7_partOf_2 18 rfl rfl)
theorem dX7_partOf_66 : decode cX7_partOf 66 = .ok (.iinc 4 1, 3) := dk_132 4 1 (dk_at dksX7_partOf_2 19 rfl rfl)
theorem dX7_partOf_69 : decode cX7_partOf 69 = .ok (.goto (-64), 3) := dk_167 255 192 (dk_at dksX7_partOf_3 0 rfl rfl)
theorem dX7_partOf_72 : decode cX7_partOf 72 = .ok (.lload_n 2, 1) := dk_32 (dk_at dksX7_partOf_3 3 rfl rfl)
theorem dX7_partOf_73 : decode cX7_partOf 73 = .ok (.lreturn, 1) := dk_173 (dk_at dksX7_partOf_3 4 rfl rfl)
abbrev cX7_fraction : ByteArray := prog_14_method_12_code
def yX7_fraction : MethodName := ⟨RX7, "fraction", "(JJZ)J"⟩
def dkwX7_fraction_0 : List UInt8 := [42, 3, 182, 0, 61, 87, 21, 5, 153, 0, 7, 33, 167, 0, 4, 31, 31, 33, 184, 0, 64, 109, 173]
abbrev dktX7_fraction_0 : List UInt8 := dkwX7_fraction_0 ++ []
theorem dksX7_fraction_0 : cX7_fraction.data.toList.drop 0 = dktX7_fraction_0 := by decide +kernel
theorem dX7_fraction_0 : decode cX7_fraction 0 = .ok (.aload_n 0, 1) := dk_42 (dk_at dksX7_fraction_0 0 rfl rfl)
theorem dX7_fraction_1 : decode cX7_fraction 1 = .ok (.iconst 0, 1) := dk_3 (dk_at dksX7_fraction_0 1 rfl rfl)
theorem dX7_fraction_2 : decode cX7_fraction 2 = .ok (.invokevirtual 61, 3) := dk_182 0 61 (dk_at dksX7_fraction_0 2 rfl rfl)
theorem dX7_fraction_5 : decode cX7_fraction 5 = .ok (.pop, 1) := dk_87 (dk_at dksX7_fraction_0 5 rfl rfl)
theorem dX7_fraction_6 : decode cX7_fraction 6 = .ok (.iload 5, 2) := dk_21 5 (dk_at dksX7_fraction_0 6 rfl rfl)
theorem dX7_fraction_8 : decode cX7_fraction 8 = .ok (.ifCond .eq 7, 3) := dk_153 0 7 (dk_at dksX7_fraction_0 8 rfl rfl)
theorem dX7_fraction_11 : decode cX7_fraction 11 = .ok (.lload_n 3, 1) := dk_33 (dk_at dksX7_fraction_0 11 rfl rfl)
theorem dX7_fraction_12 : decode cX7_fraction 12 = .ok (.goto 4, 3) := dk_167 0 4 (dk_at dksX7_fraction_0 12 rfl rfl)
theorem dX7_fraction_15 : decode cX7_fraction 15 = .ok (.lload_n 1, 1) := dk_31 (dk_at dksX7_fraction_0 15 rfl rfl)
theorem dX7_fraction_16 : decode cX7_fraction 16 = .ok (.lload_n 1, 1) := dk_31 (dk_at dksX7_fraction_0 16 rfl rfl)
theorem dX7_fraction_17 : decode cX7_fraction 17 = .ok (.lload_n 3, 1) := dk_33 (dk_at dksX7_fraction_0 17 rfl rfl)
theorem dX7_fraction_18 : decode cX7_fraction 18 = .ok (.invokestatic 64, 3) := dk_184 0 64 (dk_at dksX7_fraction_0 18 rfl rfl)
theorem dX7_fraction_21 : decode cX7_fraction 21 = .ok (.ldiv, 1) := dk_109 (dk_at dksX7_fraction_0 21 rfl rfl)
theorem dX7_fraction_22 : decode cX7_fraction 22 = .ok (.lreturn, 1) := dk_173 (dk_at dksX7_fraction_0 22 rfl rfl)
abbrev cX7_common : ByteArray := prog_14_method_11_code
def yX7_common : MethodName := ⟨RX7, "common", "(JJ)J"⟩
def dkwX7_common_1 : List UInt8 := [22, 8, 55, 6, 167, 255, 234, 22, 4, 173]
abbrev dktX7_common_1 : List UInt8 := dkwX7_common_1 ++ []
def dkwX7_common_0 : List UInt8 := [30, 55, 4, 32, 55, 6, 22, 6, 9, 148, 153, 0, 21, 22, 4, 22, 6, 113, 55, 8, 22, 6, 55, 4]
abbrev dktX7_common_0 : List UInt8 := dkwX7_common_0 ++ dktX7_common_1
theorem dksX7_common_0 : cX7_common.data.toList.drop 0 = dktX7_common_0 := by decide +kernel
theorem dksX7_common_1 : cX7_common.data.toList.drop 24 = dktX7_common_1 := dk_seg dksX7_common_0 24 rfl rfl
theorem dX7_common_0 : decode cX7_common 0 = .ok (.lload_n 0, 1) := dk_30 (dk_at dksX7_common_0 0 rfl rfl)
theorem dX7_common_1 : decode cX7_common 1 = .ok (.lstore 4, 2) := dk_55 4 (dk_at dksX7_common_0 1 rfl rfl)
theorem dX7_common_3 : decode cX7_common 3 = .ok (.lload_n 2, 1) := dk_32 (dk_at dksX7_common_0 3 rfl rfl)
theorem dX7_common_4 : decode cX7_common 4 = .ok (.lstore 6, 2) := dk_55 6 (dk_at dksX7_common_0 4 rfl rfl)
theorem dX7_common_6 : decode cX7_common 6 = .ok (.lload 6, 2) := dk_22 6 (dk_at dksX7_common_0 6 rfl rfl)
theorem dX7_common_8 : decode cX7_common 8 = .ok (.lconst 0, 1) := dk_9 (dk_at dksX7_common_0 8 rfl rfl)
theorem dX7_common_9 : decode cX7_common 9 = .ok (.lcmp, 1) := dk_148 (dk_at dksX7_common_0 9 rfl rfl)
theorem dX7_common_10 : decode cX7_common 10 = .ok (.ifCond .eq 21, 3) := dk_153 0 21 (dk_at dksX7_common_0 10 rfl rfl)
theorem dX7_common_13 : decode cX7_common 13 = .ok (.lload 4, 2) := dk_22 4 (dk_at dksX7_common_0 13 rfl rfl)
theorem dX7_common_15 : decode cX7_common 15 = .ok (.lload 6, 2) := dk_22 6 (dk_at dksX7_common_0 15 rfl rfl)
theorem dX7_common_17 : decode cX7_common 17 = .ok (.lrem, 1) := dk_113 (dk_at dksX7_common_0 17 rfl rfl)
theorem dX7_common_18 : decode cX7_common 18 = .ok (.lstore 8, 2) := dk_55 8 (dk_at dksX7_common_0 18 rfl rfl)
theorem dX7_common_20 : decode cX7_common 20 = .ok (.lload 6, 2) := dk_22 6 (dk_at dksX7_common_0 20 rfl rfl)
theorem dX7_common_22 : decode cX7_common 22 = .ok (.lstore 4, 2) := dk_55 4 (dk_at dksX7_common_0 22 rfl rfl)
theorem dX7_common_24 : decode cX7_common 24 = .ok (.lload 8, 2) := dk_22 8 (dk_at dksX7_common_1 0 rfl rfl)
theorem dX7_common_26 : decode cX7_common 26 = .ok (.lstore 6, 2) := dk_55 6 (dk_at dksX7_common_1 2 rfl rfl)
theorem dX7_common_28 : decode cX7_common 28 = .ok (.goto (-22), 3) := dk_167 255 234 (dk_at dksX7_common_1 4 rfl rfl)
theorem dX7_common_31 : decode cX7_common 31 = .ok (.lload 4, 2) := dk_22 4 (dk_at dksX7_common_1 7 rfl rfl)
theorem dX7_common_33 : decode cX7_common 33 = .ok (.lreturn, 1) := dk_173 (dk_at dksX7_common_1 9 rfl rfl)
abbrev cX7_odds : ByteArray := prog_14_method_73_code
def yX7_odds : MethodName := ⟨RX7, "odds", "(IIZ)J"⟩
def dkwX7_odds_5 : List UInt8 := [167, 255, 192, 42, 22, 4, 42, 180, 1, 88, 29, 182, 1, 103, 173]
abbrev dktX7_odds_5 : List UInt8 := dkwX7_odds_5 ++ []
def dkwX7_odds_4 : List UInt8 := [27, 46, 28, 161, 0, 12, 42, 21, 6, 182, 1, 96, 167, 0, 4, 9, 97, 55, 4, 132, 6, 1]
abbrev dktX7_odds_4 : List UInt8 := dkwX7_odds_4 ++ dktX7_odds_5
def dkwX7_odds_3 : List UInt8 := [16, 42, 46, 2, 130, 126, 153, 0, 6, 167, 0, 34, 42, 21, 6, 182, 1, 56, 22, 4, 42, 180, 0, 33]
abbrev dktX7_odds_3 : List UInt8 := dkwX7_odds_3 ++ dktX7_odds_4
def dkwX7_odds_2 : List UInt8 := [9, 55, 4, 3, 54, 6, 21, 6, 42, 180, 0, 21, 16, 42, 46, 163, 0, 58, 21, 6, 42, 180, 0, 21]
abbrev dktX7_odds_2 : List UInt8 := dkwX7_odds_2 ++ dktX7_odds_3
def dkwX7_odds_1 : List UInt8 := [17, 2, 82, 184, 0, 130, 154, 0, 10, 42, 5, 182, 0, 57, 133, 173, 42, 182, 1, 76, 42, 182, 1, 93]
abbrev dktX7_odds_1 : List UInt8 := dkwX7_odds_1 ++ dktX7_odds_2
def dkwX7_odds_0 : List UInt8 := [42, 3, 181, 0, 51, 42, 27, 182, 1, 35, 154, 0, 10, 42, 4, 182, 0, 57, 133, 173, 28, 3]
abbrev dktX7_odds_0 : List UInt8 := dkwX7_odds_0 ++ dktX7_odds_1
theorem dksX7_odds_0 : cX7_odds.data.toList.drop 0 = dktX7_odds_0 := by decide +kernel
theorem dksX7_odds_1 : cX7_odds.data.toList.drop 22 = dktX7_odds_1 := dk_seg dksX7_odds_0 22 rfl rfl
theorem dksX7_odds_2 : cX7_odds.data.toList.drop 46 = dktX7_odds_2 := dk_seg dksX7_odds_1 24 rfl rfl
theorem dksX7_odds_3 : cX7_odds.data.toList.drop 70 = dktX7_odds_3 := dk_seg dksX7_odds_2 24 rfl rfl
theorem dksX7_odds_4 : cX7_odds.data.toList.drop 94 = dktX7_odds_4 := dk_seg dksX7_odds_3 24 rfl rfl
theorem dksX7_odds_5 : cX7_odds.data.toList.drop 116 = dktX7_odds_5 := dk_seg dksX7_odds_4 22 rfl rfl
theorem dX7_odds_0 : decode cX7_odds 0 = .ok (.aload_n 0, 1) := dk_42 (dk_at dksX7_odds_0 0 rfl rfl)
theorem dX7_odds_1 : decode cX7_odds 1 = .ok (.iconst 0, 1) := dk_3 (dk_at dksX7_odds_0 1 rfl rfl)
theorem dX7_odds_2 : decode cX7_odds 2 = .ok (.putfield 51, 3) := dk_181 0 51 (dk_at dksX7_odds_0 2 rfl rfl)
theorem dX7_odds_5 : decode cX7_odds 5 = .ok (.aload_n 0, 1) := dk_42 (dk_at dksX7_odds_0 5 rfl rfl)
theorem dX7_odds_6 : decode cX7_odds 6 = .ok (.iload_n 1, 1) := dk_27 (dk_at dksX7_odds_0 6 rfl rfl)
theorem dX7_odds_7 : decode cX7_odds 7 = .ok (.invokevirtual 291, 3) := dk_182 1 35 (dk_at dksX7_odds_0 7 rfl rfl)
theorem dX7_odds_10 : decode cX7_odds 10 = .ok (.ifCond .ne 10, 3) := dk_154 0 10 (dk_at dksX7_odds_0 10 rfl rfl)
theorem dX7_odds_13 : decode cX7_odds 13 = .ok (.aload_n 0, 1) := dk_42 (dk_at dksX7_odds_0 13 rfl rfl)
theorem dX7_odds_14 : decode cX7_odds 14 = .ok (.iconst 1, 1) := dk_4 (dk_at dksX7_odds_0 14 rfl rfl)
theorem dX7_odds_15 : decode cX7_odds 15 = .ok (.invokevirtual 57, 3) := dk_182 0 57 (dk_at dksX7_odds_0 15 rfl rfl)
theorem dX7_odds_18 : decode cX7_odds 18 = .ok (.i2l, 1) := dk_133 (dk_at dksX7_odds_0 18 rfl rfl)
theorem dX7_odds_19 : decode cX7_odds 19 = .ok (.lreturn, 1) := dk_173 (dk_at dksX7_odds_0 19 rfl rfl)
theorem dX7_odds_20 : decode cX7_odds 20 = .ok (.iload_n 2, 1) := dk_28 (dk_at dksX7_odds_0 20 rfl rfl)
theorem dX7_odds_21 : decode cX7_odds 21 = .ok (.iconst 0, 1) := dk_3 (dk_at dksX7_odds_0 21 rfl rfl)
theorem dX7_odds_22 : decode cX7_odds 22 = .ok (.sipush 594, 3) := dk_17 2 82 (dk_at dksX7_odds_1 0 rfl rfl)
theorem dX7_odds_25 : decode cX7_odds 25 = .ok (.invokestatic 130, 3) := dk_184 0 130 (dk_at dksX7_odds_1 3 rfl rfl)
theorem dX7_odds_28 : decode cX7_odds 28 = .ok (.ifCond .ne 10, 3) := dk_154 0 10 (dk_at dksX7_odds_1 6 rfl rfl)
theorem dX7_odds_31 : decode cX7_odds 31 = .ok (.aload_n 0, 1) := dk_42 (dk_at dksX7_odds_1 9 rfl rfl)
theorem dX7_odds_32 : decode cX7_odds 32 = .ok (.iconst 2, 1) := dk_5 (dk_at dksX7_odds_1 10 rfl rfl)
theorem dX7_odds_33 : decode cX7_odds 33 = .ok (.invokevirtual 57, 3) := dk_182 0 57 (dk_at dksX7_odds_1 11 rfl rfl)
theorem dX7_odds_36 : decode cX7_odds 36 = .ok (.i2l, 1) := dk_133 (dk_at dksX7_odds_1 14 rfl rfl)
theorem dX7_odds_37 : decode cX7_odds 37 = .ok (.lreturn, 1) := dk_173 (dk_at dksX7_odds_1 15 rfl rfl)
theorem dX7_odds_38 : decode cX7_odds 38 = .ok (.aload_n 0, 1) := dk_42 (dk_at dksX7_odds_1 16 rfl rfl)
theorem dX7_odds_39 : decode cX7_odds 39 = .ok (.invokevirtual 332, 3) := dk_182 1 76 (dk_at dksX7_odds_1 17 rfl rfl)
theorem dX7_odds_42 : decode cX7_odds 42 = .ok (.aload_n 0, 1) := dk_42 (dk_at dksX7_odds_1 20 rfl rfl)
theorem dX7_odds_43 : decode cX7_odds 43 = .ok (.invokevirtual 349, 3) := dk_182 1 93 (dk_at dksX7_odds_1 21 rfl rfl)
theorem dX7_odds_46 : decode cX7_odds 46 = .ok (.lconst 0, 1) := dk_9 (dk_at dksX7_odds_2 0 rfl rfl)
theorem dX7_odds_47 : decode cX7_odds 47 = .ok (.lstore 4, 2) := dk_55 4 (dk_at dksX7_odds_2 1 rfl rfl)
theorem dX7_odds_49 : decode cX7_odds 49 = .ok (.iconst 0, 1) := dk_3 (dk_at dksX7_odds_2 3 rfl rfl)
theorem dX7_odds_50 : decode cX7_odds 50 = .ok (.istore 6, 2) := dk_54 6 (dk_at dksX7_odds_2 4 rfl rfl)
theorem dX7_odds_52 : decode cX7_odds 52 = .ok (.iload 6, 2) := dk_21 6 (dk_at dksX7_odds_2 6 rfl rfl)
theorem dX7_odds_54 : decode cX7_odds 54 = .ok (.aload_n 0, 1) := dk_42 (dk_at dksX7_odds_2 8 rfl rfl)
theorem dX7_odds_55 : decode cX7_odds 55 = .ok (.getfield 21, 3) := dk_180 0 21 (dk_at dksX7_odds_2 9 rfl rfl)
theorem dX7_odds_58 : decode cX7_odds 58 = .ok (.bipush 42, 2) := dk_16 42 (dk_at dksX7_odds_2 12 rfl rfl)
theorem dX7_odds_60 : decode cX7_odds 60 = .ok (.iaload, 1) := dk_46 (dk_at dksX7_odds_2 14 rfl rfl)
theorem dX7_odds_61 : decode cX7_odds 61 = .ok (.if_icmp .gt 58, 3) := dk_163 0 58 (dk_at dksX7_odds_2 15 rfl rfl)
theorem dX7_odds_64 : decode cX7_odds 64 = .ok (.iload 6, 2) := dk_21 6 (dk_at dksX7_odds_2 18 rfl rfl)
theorem dX7_odds_66 : decode cX7_odds 66 = .ok (.aload_n 0, 1) := dk_42 (dk_at dksX7_odds_2 20 rfl rfl)
theorem dX7_odds_67 : decode cX7_odds 67 = .ok (.getfield 21, 3) := dk_180 0 21 (dk_at dksX7_odds_2 21 rfl rfl)
theorem dX7_odds_70 : decode cX7_odds 70 = .ok (.bipush 42, 2) := dk_16 42 (dk_at dksX7_odds_3 0 rfl rfl)
theorem dX7_odds_72 : decode cX7_odds 72 = .ok (.iaload, 1) := dk_46 (dk_at dksX7_odds_3 2 rfl rfl)
theorem dX7_odds_73 : decode cX7_odds 73 = .ok (.iconst (-1), 1) := dk_2 (dk_at dksX7_odds_3 3 rfl rfl)
theorem dX7_odds_74 : decode cX7_odds 74 = .ok (.ixor, 1) := dk_130 (dk_at dksX7_odds_3 4 rfl rfl)
theorem dX7_odds_75 : decode cX7_odds 75 = .ok (.iand, 1) := dk_126 (dk_at dksX7_odds_3 5 rfl rfl)
theorem dX7_odds_76 : decode cX7_odds 76 = .ok (.ifCond .eq 6, 3) := dk_153 0 6 (dk_at dksX7_odds_3 6 rfl rfl)
theorem dX7_odds_79 : decode cX7_odds 79 = .ok (.goto 34, 3) := dk_167 0 34 (dk_at dksX7_odds_3 9 rfl rfl)
theorem dX7_odds_82 : decode cX7_odds 82 = .ok (.aload_n 0, 1) := dk_42 (dk_at dksX7_odds_3 12 rfl rfl)
theorem dX7_odds_83 : decode cX7_odds 83 = .ok (.iload 6, 2) := dk_21 6 (dk_at dksX7_odds_3 13 rfl rfl)
theorem dX7_odds_85 : decode cX7_odds 85 = .ok (.invokevirtual 312, 3) := dk_182 1 56 (dk_at dksX7_odds_3 15 rfl rfl)
theorem dX7_odds_88 : decode cX7_odds 88 = .ok (.lload 4, 2) := dk_22 4 (dk_at dksX7_odds_3 18 rfl rfl)
theorem dX7_odds_90 : decode cX7_odds 90 = .ok (.aload_n 0, 1) := dk_42 (dk_at dksX7_odds_3 20 rfl rfl)
theorem dX7_odds_91 : decode cX7_odds 91 = .ok (.getfield 33, 3) := dk_180 0 33 (dk_at dksX7_odds_3 21 rfl rfl)
theorem dX7_odds_94 : decode cX7_odds 94 = .ok (.iload_n 1, 1) := dk_27 (dk_at dksX7_odds_4 0 rfl rfl)
theorem dX7_odds_95 : decode cX7_odds 95 = .ok (.iaload, 1) := dk_46 (dk_at dksX7_odds_4 1 rfl rfl)
theorem dX7_odds_96 : decode cX7_odds 96 = .ok (.iload_n 2, 1) := dk_28 (dk_at dksX7_odds_4 2 rfl rfl)
theorem dX7_odds_97 : decode cX7_odds 97 = .ok (.if_icmp .lt 12, 3) := dk_161 0 12 (dk_at dksX7_odds_4 3 rfl rfl)
theorem dX7_odds_100 : decode cX7_odds 100 = .ok (.aload_n 0, 1) := dk_42 (dk_at dksX7_odds_4 6 rfl rfl)
theorem dX7_odds_101 : decode cX7_odds 101 = .ok (.iload 6, 2) := dk_21 6 (dk_at dksX7_odds_4 7 rfl rfl)
theorem dX7_odds_103 : decode cX7_odds 103 = .ok (.invokevirtual 352, 3) := dk_182 1 96 (dk_at dksX7_odds_4 9 rfl rfl)
theorem dX7_odds_106 : decode cX7_odds 106 = .ok (.goto 4, 3) := dk_167 0 4 (dk_at dksX7_odds_4 12 rfl rfl)
theorem dX7_odds_109 : decode cX7_odds 109 = .ok (.lconst 0, 1) := dk_9 (dk_at dksX7_odds_4 15 rfl rfl)
theorem dX7_odds_110 : decode cX7_odds 110 = .ok (.ladd, 1) := dk_97 (dk_at dksX7_odds_4 16 rfl rfl)
theorem dX7_odds_111 : decode cX7_odds 111 = .ok (.lstore 4, 2) := dk_55 4 (dk_at dksX7_odds_4 17 rfl rfl)
theorem dX7_odds_113 : decode cX7_odds 113 = .ok (.iinc 6 1, 3) := dk_132 6 1 (dk_at dksX7_odds_4 19 rfl rfl)
theorem dX7_odds_116 : decode cX7_odds 116 = .ok (.goto (-64), 3) := dk_167 255 192 (dk_at dksX7_odds_5 0 rfl rfl)
theorem dX7_odds_119 : decode cX7_odds 119 = .ok (.aload_n 0, 1) := dk_42 (dk_at dksX7_odds_5 3 rfl rfl)
theorem dX7_odds_120 : decode cX7_odds 120 = .ok (.lload 4, 2) := dk_22 4 (dk_at dksX7_odds_5 4 rfl rfl)
theorem dX7_odds_122 : decode cX7_odds 122 = .ok (.aload_n 0, 1) := dk_42 (dk_at dksX7_odds_5 6 rfl rfl)
theorem dX7_odds_123 : decode cX7_odds 123 = .ok (.getfield 344, 3) := dk_180 1 88 (dk_at dksX7_odds_5 7 rfl rfl)
theorem dX7_odds_126 : decode cX7_odds 126 = .ok (.iload_n 3, 1) := dk_29 (dk_at dksX7_odds_5 10 rfl rfl)
theorem dX7_odds_127 : decode cX7_odds 127 = .ok (.invokevirtual 359, 3) := dk_182 1 103 (dk_at dksX7_odds_5 11 rfl rfl)
theorem dX7_odds_130 : decode cX7_odds 130 = .ok (.lreturn, 1) := dk_173 (dk_at dksX7_odds_5 14 rfl rfl)
abbrev cX7_passes : ByteArray := prog_14_method_74_code
def yX7_passes : MethodName := ⟨RX7, "passes", "(IIZ)J"⟩
def dkwX7_passes_4 : List UInt8 := [55, 4, 132, 6, 1, 167, 255, 195, 42, 22, 4, 42, 180, 1, 88, 29, 182, 1, 103, 173]
abbrev dktX7_passes_4 : List UInt8 := dkwX7_passes_4 ++ []
def dkwX7_passes_3 : List UInt8 := [153, 0, 25, 42, 27, 21, 6, 182, 1, 50, 28, 160, 0, 14, 22, 4, 42, 21, 6, 182, 1, 96, 97]
abbrev dktX7_passes_3 : List UInt8 := dkwX7_passes_3 ++ dktX7_passes_4
def dkwX7_passes_2 : List UInt8 := [163, 0, 55, 21, 6, 42, 180, 0, 21, 16, 42, 46, 2, 130, 126, 154, 0, 34, 21, 6, 27, 184, 0, 235]
abbrev dktX7_passes_2 : List UInt8 := dkwX7_passes_2 ++ dktX7_passes_3
def dkwX7_passes_1 : List UInt8 := [182, 1, 76, 42, 182, 1, 93, 9, 55, 4, 3, 54, 6, 21, 6, 42, 180, 0, 21, 16, 42, 46]
abbrev dktX7_passes_1 : List UInt8 := dkwX7_passes_1 ++ dktX7_passes_2
def dkwX7_passes_0 : List UInt8 := [42, 3, 181, 0, 51, 42, 27, 28, 182, 1, 70, 154, 0, 10, 42, 4, 182, 0, 57, 133, 173, 42]
abbrev dktX7_passes_0 : List UInt8 := dkwX7_passes_0 ++ dktX7_passes_1
theorem dksX7_passes_0 : cX7_passes.data.toList.drop 0 = dktX7_passes_0 := by decide +kernel
theorem dksX7_passes_1 : cX7_passes.data.toList.drop 22 = dktX7_passes_1 := dk_seg dksX7_passes_0 22 rfl rfl
theorem dksX7_passes_2 : cX7_passes.data.toList.drop 44 = dktX7_passes_2 := dk_seg dksX7_passes_1 22 rfl rfl
theorem dksX7_passes_3 : cX7_passes.data.toList.drop 68 = dktX7_passes_3 := dk_seg dksX7_passes_2 24 rfl rfl
theorem dksX7_passes_4 : cX7_passes.data.toList.drop 91 = dktX7_passes_4 := dk_seg dksX7_passes_3 23 rfl rfl
theorem dX7_passes_0 : decode cX7_passes 0 = .ok (.aload_n 0, 1) := dk_42 (dk_at dksX7_passes_0 0 rfl rfl)
theorem dX7_passes_1 : decode cX7_passes 1 = .ok (.iconst 0, 1) := dk_3 (dk_at dksX7_passes_0 1 rfl rfl)
theorem dX7_passes_2 : decode cX7_passes 2 = .ok (.putfield 51, 3) := dk_181 0 51 (dk_at dksX7_passes_0 2 rfl rfl)
theorem dX7_passes_5 : decode cX7_passes 5 = .ok (.aload_n 0, 1) := dk_42 (dk_at dksX7_passes_0 5 rfl rfl)
theorem dX7_passes_6 : decode cX7_passes 6 = .ok (.iload_n 1, 1) := dk_27 (dk_at dksX7_passes_0 6 rfl rfl)
theorem dX7_passes_7 : decode cX7_passes 7 = .ok (.iload_n 2, 1) := dk_28 (dk_at dksX7_passes_0 7 rfl rfl)
theorem dX7_passes_8 : decode cX7_passes 8 = .ok (.invokevirtual 326, 3) := dk_182 1 70 (dk_at dksX7_passes_0 8 rfl rfl)
theorem dX7_passes_11 : decode cX7_passes 11 = .ok (.ifCond .ne 10, 3) := dk_154 0 10 (dk_at dksX7_passes_0 11 rfl rfl)
theorem dX7_passes_14 : decode cX7_passes 14 = .ok (.aload_n 0, 1) := dk_42 (dk_at dksX7_passes_0 14 rfl rfl)
theorem dX7_passes_15 : decode cX7_passes 15 = .ok (.iconst 1, 1) := dk_4 (dk_at dksX7_passes_0 15 rfl rfl)
theorem dX7_passes_16 : decode cX7_passes 16 = .ok (.invokevirtual 57, 3) := dk_182 0 57 (dk_at dksX7_passes_0 16 rfl rfl)
theorem dX7_passes_19 : decode cX7_passes 19 = .ok (.i2l, 1) := dk_133 (dk_at dksX7_passes_0 19 rfl rfl)
theorem dX7_passes_20 : decode cX7_passes 20 = .ok (.lreturn, 1) := dk_173 (dk_at dksX7_passes_0 20 rfl rfl)
theorem dX7_passes_21 : decode cX7_passes 21 = .ok (.aload_n 0, 1) := dk_42 (dk_at dksX7_passes_0 21 rfl rfl)
theorem dX7_passes_22 : decode cX7_passes 22 = .ok (.invokevirtual 332, 3) := dk_182 1 76 (dk_at dksX7_passes_1 0 rfl rfl)
theorem dX7_passes_25 : decode cX7_passes 25 = .ok (.aload_n 0, 1) := dk_42 (dk_at dksX7_passes_1 3 rfl rfl)
theorem dX7_passes_26 : decode cX7_passes 26 = .ok (.invokevirtual 349, 3) := dk_182 1 93 (dk_at dksX7_passes_1 4 rfl rfl)
theorem dX7_passes_29 : decode cX7_passes 29 = .ok (.lconst 0, 1) := dk_9 (dk_at dksX7_passes_1 7 rfl rfl)
theorem dX7_passes_30 : decode cX7_passes 30 = .ok (.lstore 4, 2) := dk_55 4 (dk_at dksX7_passes_1 8 rfl rfl)
theorem dX7_passes_32 : decode cX7_passes 32 = .ok (.iconst 0, 1) := dk_3 (dk_at dksX7_passes_1 10 rfl rfl)
theorem dX7_passes_33 : decode cX7_passes 33 = .ok (.istore 6, 2) := dk_54 6 (dk_at dksX7_passes_1 11 rfl rfl)
theorem dX7_passes_35 : decode cX7_passes 35 = .ok (.iload 6, 2) := dk_21 6 (dk_at dksX7_passes_1 13 rfl rfl)
theorem dX7_passes_37 : decode cX7_passes 37 = .ok (.aload_n 0, 1) := dk_42 (dk_at dksX7_passes_1 15 rfl rfl)
theorem dX7_passes_38 : decode cX7_passes 38 = .ok (.getfield 21, 3) := dk_180 0 21 (dk_at dksX7_passes_1 16 rfl rfl)
theorem dX7_passes_41 : decode cX7_passes 41 = .ok (.bipush 42, 2) := dk_16 42 (dk_at dksX7_passes_1 19 rfl rfl)
theorem dX7_passes_43 : decode cX7_passes 43 = .ok (.iaload, 1) := dk_46 (dk_at dksX7_passes_1 21 rfl rfl)
theorem dX7_passes_44 : decode cX7_passes 44 = .ok (.if_icmp .gt 55, 3) := dk_163 0 55 (dk_at dksX7_passes_2 0 rfl rfl)
theorem dX7_passes_47 : decode cX7_passes 47 = .ok (.iload 6, 2) := dk_21 6 (dk_at dksX7_passes_2 3 rfl rfl)
theorem dX7_passes_49 : decode cX7_passes 49 = .ok (.aload_n 0, 1) := dk_42 (dk_at dksX7_passes_2 5 rfl rfl)
theorem dX7_passes_50 : decode cX7_passes 50 = .ok (.getfield 21, 3) := dk_180 0 21 (dk_at dksX7_passes_2 6 rfl rfl)
theorem dX7_passes_53 : decode cX7_passes 53 = .ok (.bipush 42, 2) := dk_16 42 (dk_at dksX7_passes_2 9 rfl rfl)
theorem dX7_passes_55 : decode cX7_passes 55 = .ok (.iaload, 1) := dk_46 (dk_at dksX7_passes_2 11 rfl rfl)
theorem dX7_passes_56 : decode cX7_passes 56 = .ok (.iconst (-1), 1) := dk_2 (dk_at dksX7_passes_2 12 rfl rfl)
theorem dX7_passes_57 : decode cX7_passes 57 = .ok (.ixor, 1) := dk_130 (dk_at dksX7_passes_2 13 rfl rfl)
theorem dX7_passes_58 : decode cX7_passes 58 = .ok (.iand, 1) := dk_126 (dk_at dksX7_passes_2 14 rfl rfl)
theorem dX7_passes_59 : decode cX7_passes 59 = .ok (.ifCond .ne 34, 3) := dk_154 0 34 (dk_at dksX7_passes_2 15 rfl rfl)
theorem dX7_passes_62 : decode cX7_passes 62 = .ok (.iload 6, 2) := dk_21 6 (dk_at dksX7_passes_2 18 rfl rfl)
theorem dX7_passes_64 : decode cX7_passes 64 = .ok (.iload_n 1, 1) := dk_27 (dk_at dksX7_passes_2 20 rfl rfl)
theorem dX7_passes_65 : decode cX7_passes 65 = .ok (.invokestatic 235, 3) := dk_184 0 235 (dk_at dksX7_passes_2 21 rfl rfl)
theorem dX7_passes_68 : decode cX7_passes 68 = .ok (.ifCond .eq 25, 3) := dk_153 0 25 (dk_at dksX7_passes_3 0 rfl rfl)
theorem dX7_passes_71 : decode cX7_passes 71 = .ok (.aload_n 0, 1) := dk_42 (dk_at dksX7_passes_3 3 rfl rfl)
theorem dX7_passes_72 : decode cX7_passes 72 = .ok (.iload_n 1, 1) := dk_27 (dk_at dksX7_passes_3 4 rfl rfl)
theorem dX7_passes_73 : decode cX7_passes 73 = .ok (.iload 6, 2) := dk_21 6 (dk_at dksX7_passes_3 5 rfl rfl)
theorem dX7_passes_75 : decode cX7_passes 75 = .ok (.invokevirtual 306, 3) := dk_182 1 50 (dk_at dksX7_passes_3 7 rfl rfl)
theorem dX7_passes_78 : decode cX7_passes 78 = .ok (.iload_n 2, 1) := dk_28 (dk_at dksX7_passes_3 10 rfl rfl)
theorem dX7_passes_79 : decode cX7_passes 79 = .ok (.if_icmp .ne 14, 3) := dk_160 0 14 (dk_at dksX7_passes_3 11 rfl rfl)
theorem dX7_passes_82 : decode cX7_passes 82 = .ok (.lload 4, 2) := dk_22 4 (dk_at dksX7_passes_3 14 rfl rfl)
theorem dX7_passes_84 : decode cX7_passes 84 = .ok (.aload_n 0, 1) := dk_42 (dk_at dksX7_passes_3 16 rfl rfl)
theorem dX7_passes_85 : decode cX7_passes 85 = .ok (.iload 6, 2) := dk_21 6 (dk_at dksX7_passes_3 17 rfl rfl)
theorem dX7_passes_87 : decode cX7_passes 87 = .ok (.invokevirtual 352, 3) := dk_182 1 96 (dk_at dksX7_passes_3 19 rfl rfl)
theorem dX7_passes_90 : decode cX7_passes 90 = .ok (.ladd, 1) := dk_97 (dk_at dksX7_passes_3 22 rfl rfl)
theorem dX7_passes_91 : decode cX7_passes 91 = .ok (.lstore 4, 2) := dk_55 4 (dk_at dksX7_passes_4 0 rfl rfl)
theorem dX7_passes_93 : decode cX7_passes 93 = .ok (.iinc 6 1, 3) := dk_132 6 1 (dk_at dksX7_passes_4 2 rfl rfl)
theorem dX7_passes_96 : decode cX7_passes 96 = .ok (.goto (-61), 3) := dk_167 255 195 (dk_at dksX7_passes_4 5 rfl rfl)
theorem dX7_passes_99 : decode cX7_passes 99 = .ok (.aload_n 0, 1) := dk_42 (dk_at dksX7_passes_4 8 rfl rfl)
theorem dX7_passes_100 : decode cX7_passes 100 = .ok (.lload 4, 2) := dk_22 4 (dk_at dksX7_passes_4 9 rfl rfl)
theorem dX7_passes_102 : decode cX7_passes 102 = .ok (.aload_n 0, 1) := dk_42 (dk_at dksX7_passes_4 11 rfl rfl)
theorem dX7_passes_103 : decode cX7_passes 103 = .ok (.getfield 344, 3) := dk_180 1 88 (dk_at dksX7_passes_4 12 rfl rfl)
theorem dX7_passes_106 : decode cX7_passes 106 = .ok (.iload_n 3, 1) := dk_29 (dk_at dksX7_passes_4 15 rfl rfl)
theorem dX7_passes_107 : decode cX7_passes 107 = .ok (.invokevirtual 359, 3) := dk_182 1 103 (dk_at dksX7_passes_4 16 rfl rfl)
theorem dX7_passes_110 : decode cX7_passes 110 = .ok (.lreturn, 1) := dk_173 (dk_at dksX7_passes_4 19 rfl rfl)
abbrev cX7_catMean : ByteArray := prog_14_method_75_code
def yX7_catMean : MethodName := ⟨RX7, "catMean", "(Z)J"⟩
def dkwX7_catMean_4 : List UInt8 := [180, 1, 88, 27, 182, 1, 103, 173]
abbrev dktX7_catMean_4 : List UInt8 := dkwX7_catMean_4 ++ []
def dkwX7_catMean_3 : List UInt8 := [21, 4, 182, 1, 96, 42, 180, 1, 47, 133, 105, 97, 65, 132, 4, 1, 167, 255, 202, 42, 32, 42]
abbrev dktX7_catMean_3 : List UInt8 := dkwX7_catMean_3 ++ dktX7_catMean_4
def dkwX7_catMean_2 : List UInt8 := [180, 0, 21, 16, 42, 46, 2, 130, 126, 153, 0, 6, 167, 0, 24, 42, 21, 4, 182, 1, 56, 32, 42]
abbrev dktX7_catMean_2 : List UInt8 := dkwX7_catMean_2 ++ dktX7_catMean_3
def dkwX7_catMean_1 : List UInt8 := [182, 1, 93, 9, 65, 3, 54, 4, 21, 4, 42, 180, 0, 21, 16, 42, 46, 163, 0, 48, 21, 4, 42]
abbrev dktX7_catMean_1 : List UInt8 := dkwX7_catMean_1 ++ dktX7_catMean_2
def dkwX7_catMean_0 : List UInt8 := [42, 3, 181, 0, 51, 42, 180, 1, 24, 199, 0, 10, 42, 4, 182, 0, 57, 133, 173, 42, 182, 1, 76, 42]
abbrev dktX7_catMean_0 : List UInt8 := dkwX7_catMean_0 ++ dktX7_catMean_1
theorem dksX7_catMean_0 : cX7_catMean.data.toList.drop 0 = dktX7_catMean_0 := by decide +kernel
theorem dksX7_catMean_1 : cX7_catMean.data.toList.drop 24 = dktX7_catMean_1 := dk_seg dksX7_catMean_0 24 rfl rfl
theorem dksX7_catMean_2 : cX7_catMean.data.toList.drop 47 = dktX7_catMean_2 := dk_seg dksX7_catMean_1 23 rfl rfl
theorem dksX7_catMean_3 : cX7_catMean.data.toList.drop 70 = dktX7_catMean_3 := dk_seg dksX7_catMean_2 23 rfl rfl
theorem dksX7_catMean_4 : cX7_catMean.data.toList.drop 92 = dktX7_catMean_4 := dk_seg dksX7_catMean_3 22 rfl rfl
theorem dX7_catMean_0 : decode cX7_catMean 0 = .ok (.aload_n 0, 1) := dk_42 (dk_at dksX7_catMean_0 0 rfl rfl)
theorem dX7_catMean_1 : decode cX7_catMean 1 = .ok (.iconst 0, 1) := dk_3 (dk_at dksX7_catMean_0 1 rfl rfl)
theorem dX7_catMean_2 : decode cX7_catMean 2 = .ok (.putfield 51, 3) := dk_181 0 51 (dk_at dksX7_catMean_0 2 rfl rfl)
theorem dX7_catMean_5 : decode cX7_catMean 5 = .ok (.aload_n 0, 1) := dk_42 (dk_at dksX7_catMean_0 5 rfl rfl)
theorem dX7_catMean_6 : decode cX7_catMean 6 = .ok (.getfield 280, 3) := dk_180 1 24 (dk_at dksX7_catMean_0 6 rfl rfl)
theorem dX7_catMean_9 : decode cX7_catMean 9 = .ok (.ifnonnull 10, 3) := dk_199 0 10 (dk_at dksX7_catMean_0 9 rfl rfl)
theorem dX7_catMean_12 : decode cX7_catMean 12 = .ok (.aload_n 0, 1) := dk_42 (dk_at dksX7_catMean_0 12 rfl rfl)
theorem dX7_catMean_13 : decode cX7_catMean 13 = .ok (.iconst 1, 1) := dk_4 (dk_at dksX7_catMean_0 13 rfl rfl)
theorem dX7_catMean_14 : decode cX7_catMean 14 = .ok (.invokevirtual 57, 3) := dk_182 0 57 (dk_at dksX7_catMean_0 14 rfl rfl)
theorem dX7_catMean_17 : decode cX7_catMean 17 = .ok (.i2l, 1) := dk_133 (dk_at dksX7_catMean_0 17 rfl rfl)
theorem dX7_catMean_18 : decode cX7_catMean 18 = .ok (.lreturn, 1) := dk_173 (dk_at dksX7_catMean_0 18 rfl rfl)
theorem dX7_catMean_19 : decode cX7_catMean 19 = .ok (.aload_n 0, 1) := dk_42 (dk_at dksX7_catMean_0 19 rfl rfl)
theorem dX7_catMean_20 : decode cX7_catMean 20 = .ok (.invokevirtual 332, 3) := dk_182 1 76 (dk_at dksX7_catMean_0 20 rfl rfl)
theorem dX7_catMean_23 : decode cX7_catMean 23 = .ok (.aload_n 0, 1) := dk_42 (dk_at dksX7_catMean_0 23 rfl rfl)
theorem dX7_catMean_24 : decode cX7_catMean 24 = .ok (.invokevirtual 349, 3) := dk_182 1 93 (dk_at dksX7_catMean_1 0 rfl rfl)
theorem dX7_catMean_27 : decode cX7_catMean 27 = .ok (.lconst 0, 1) := dk_9 (dk_at dksX7_catMean_1 3 rfl rfl)
theorem dX7_catMean_28 : decode cX7_catMean 28 = .ok (.lstore_n 2, 1) := dk_65 (dk_at dksX7_catMean_1 4 rfl rfl)
theorem dX7_catMean_29 : decode cX7_catMean 29 = .ok (.iconst 0, 1) := dk_3 (dk_at dksX7_catMean_1 5 rfl rfl)
theorem dX7_catMean_30 : decode cX7_catMean 30 = .ok (.istore 4, 2) := dk_54 4 (dk_at dksX7_catMean_1 6 rfl rfl)
theorem dX7_catMean_32 : decode cX7_catMean 32 = .ok (.iload 4, 2) := dk_21 4 (dk_at dksX7_catMean_1 8 rfl rfl)
theorem dX7_catMean_34 : decode cX7_catMean 34 = .ok (.aload_n 0, 1) := dk_42 (dk_at dksX7_catMean_1 10 rfl rfl)
theorem dX7_catMean_35 : decode cX7_catMean 35 = .ok (.getfield 21, 3) := dk_180 0 21 (dk_at dksX7_catMean_1 11 rfl rfl)
theorem dX7_catMean_38 : decode cX7_catMean 38 = .ok (.bipush 42, 2) := dk_16 42 (dk_at dksX7_catMean_1 14 rfl rfl)
theorem dX7_catMean_40 : decode cX7_catMean 40 = .ok (.iaload, 1) := dk_46 (dk_at dksX7_catMean_1 16 rfl rfl)
theorem dX7_catMean_41 : decode cX7_catMean 41 = .ok (.if_icmp .gt 48, 3) := dk_163 0 48 (dk_at dksX7_catMean_1 17 rfl rfl)
theorem dX7_catMean_44 : decode cX7_catMean 44 = .ok (.iload 4, 2) := dk_21 4 (dk_at dksX7_catMean_1 20 rfl rfl)
theorem dX7_catMean_46 : decode cX7_catMean 46 = .ok (.aload_n 0, 1) := dk_42 (dk_at dksX7_catMean_1 22 rfl rfl)
theorem dX7_catMean_47 : decode cX7_catMean 47 = .ok (.getfield 21, 3) := dk_180 0 21 (dk_at dksX7_catMean_2 0 rfl rfl)
theorem dX7_catMean_50 : decode cX7_catMean 50 = .ok (.bipush 42, 2) := dk_16 42 (dk_at dksX7_catMean_2 3 rfl rfl)
theorem dX7_catMean_52 : decode cX7_catMean 52 = .ok (.iaload, 1) := dk_46 (dk_at dksX7_catMean_2 5 rfl rfl)
theorem dX7_catMean_53 : decode cX7_catMean 53 = .ok (.iconst (-1), 1) := dk_2 (dk_at dksX7_catMean_2 6 rfl rfl)
theorem dX7_catMean_54 : decode cX7_catMean 54 = .ok (.ixor, 1) := dk_130 (dk_at dksX7_catMean_2 7 rfl rfl)
theorem dX7_catMean_55 : decode cX7_catMean 55 = .ok (.iand, 1) := dk_126 (dk_at dksX7_catMean_2 8 rfl rfl)
theorem dX7_catMean_56 : decode cX7_catMean 56 = .ok (.ifCond .eq 6, 3) := dk_153 0 6 (dk_at dksX7_catMean_2 9 rfl rfl)
theorem dX7_catMean_59 : decode cX7_catMean 59 = .ok (.goto 24, 3) := dk_167 0 24 (dk_at dksX7_catMean_2 12 rfl rfl)
theorem dX7_catMean_62 : decode cX7_catMean 62 = .ok (.aload_n 0, 1) := dk_42 (dk_at dksX7_catMean_2 15 rfl rfl)
theorem dX7_catMean_63 : decode cX7_catMean 63 = .ok (.iload 4, 2) := dk_21 4 (dk_at dksX7_catMean_2 16 rfl rfl)
theorem dX7_catMean_65 : decode cX7_catMean 65 = .ok (.invokevirtual 312, 3) := dk_182 1 56 (dk_at dksX7_catMean_2 18 rfl rfl)
theorem dX7_catMean_68 : decode cX7_catMean 68 = .ok (.lload_n 2, 1) := dk_32 (dk_at dksX7_catMean_2 21 rfl rfl)
theorem dX7_catMean_69 : decode cX7_catMean 69 = .ok (.aload_n 0, 1) := dk_42 (dk_at dksX7_catMean_2 22 rfl rfl)
theorem dX7_catMean_70 : decode cX7_catMean 70 = .ok (.iload 4, 2) := dk_21 4 (dk_at dksX7_catMean_3 0 rfl rfl)
theorem dX7_catMean_72 : decode cX7_catMean 72 = .ok (.invokevirtual 352, 3) := dk_182 1 96 (dk_at dksX7_catMean_3 2 rfl rfl)
theorem dX7_catMean_75 : decode cX7_catMean 75 = .ok (.aload_n 0, 1) := dk_42 (dk_at dksX7_catMean_3 5 rfl rfl)
theorem dX7_catMean_76 : decode cX7_catMean 76 = .ok (.getfield 303, 3) := dk_180 1 47 (dk_at dksX7_catMean_3 6 rfl rfl)
theorem dX7_catMean_79 : decode cX7_catMean 79 = .ok (.i2l, 1) := dk_133 (dk_at dksX7_catMean_3 9 rfl rfl)
theorem dX7_catMean_80 : decode cX7_catMean 80 = .ok (.lmul, 1) := dk_105 (dk_at dksX7_catMean_3 10 rfl rfl)
theorem dX7_catMean_81 : decode cX7_catMean 81 = .ok (.ladd, 1) := dk_97 (dk_at dksX7_catMean_3 11 rfl rfl)
theorem dX7_catMean_82 : decode cX7_catMean 82 = .ok (.lstore_n 2, 1) := dk_65 (dk_at dksX7_catMean_3 12 rfl rfl)
theorem dX7_catMean_83 : decode cX7_catMean 83 = .ok (.iinc 4 1, 3) := dk_132 4 1 (dk_at dksX7_catMean_3 13 rfl rfl)
theorem dX7_catMean_86 : decode cX7_catMean 86 = .ok (.goto (-54), 3) := dk_167 255 202 (dk_at dksX7_catMean_3 16 rfl rfl)
theorem dX7_catMean_89 : decode cX7_catMean 89 = .ok (.aload_n 0, 1) := dk_42 (dk_at dksX7_catMean_3 19 rfl rfl)
theorem dX7_catMean_90 : decode cX7_catMean 90 = .ok (.lload_n 2, 1) := dk_32 (dk_at dksX7_catMean_3 20 rfl rfl)
theorem dX7_catMean_91 : decode cX7_catMean 91 = .ok (.aload_n 0, 1) := dk_42 (dk_at dksX7_catMean_3 21 rfl rfl)
theorem dX7_catMean_92 : decode cX7_catMean 92 = .ok (.getfield 344, 3) := dk_180 1 88 (dk_at dksX7_catMean_4 0 rfl rfl)
theorem dX7_catMean_95 : decode cX7_catMean 95 = .ok (.iload_n 1, 1) := dk_27 (dk_at dksX7_catMean_4 3 rfl rfl)
theorem dX7_catMean_96 : decode cX7_catMean 96 = .ok (.invokevirtual 359, 3) := dk_182 1 103 (dk_at dksX7_catMean_4 4 rfl rfl)
theorem dX7_catMean_99 : decode cX7_catMean 99 = .ok (.lreturn, 1) := dk_173 (dk_at dksX7_catMean_4 7 rfl rfl)
abbrev cX7_best : ByteArray := prog_14_method_79_code
def yX7_best : MethodName := ⟨RX7, "best", "(II)I"⟩
def dkwX7_best_1 : List UInt8 := [167, 0, 13, 42, 42, 27, 28, 182, 1, 119, 182, 0, 61, 172]
abbrev dktX7_best_1 : List UInt8 := dkwX7_best_1 ++ []
def dkwX7_best_0 : List UInt8 := [42, 3, 181, 0, 51, 42, 27, 28, 4, 6, 182, 1, 115, 62, 29, 158, 0, 11, 42, 29, 182, 0, 57]
abbrev dktX7_best_0 : List UInt8 := dkwX7_best_0 ++ dktX7_best_1
theorem dksX7_best_0 : cX7_best.data.toList.drop 0 = dktX7_best_0 := by decide +kernel
theorem dksX7_best_1 : cX7_best.data.toList.drop 23 = dktX7_best_1 := dk_seg dksX7_best_0 23 rfl rfl
theorem dX7_best_0 : decode cX7_best 0 = .ok (.aload_n 0, 1) := dk_42 (dk_at dksX7_best_0 0 rfl rfl)
theorem dX7_best_1 : decode cX7_best 1 = .ok (.iconst 0, 1) := dk_3 (dk_at dksX7_best_0 1 rfl rfl)
theorem dX7_best_2 : decode cX7_best 2 = .ok (.putfield 51, 3) := dk_181 0 51 (dk_at dksX7_best_0 2 rfl rfl)
theorem dX7_best_5 : decode cX7_best 5 = .ok (.aload_n 0, 1) := dk_42 (dk_at dksX7_best_0 5 rfl rfl)
theorem dX7_best_6 : decode cX7_best 6 = .ok (.iload_n 1, 1) := dk_27 (dk_at dksX7_best_0 6 rfl rfl)
theorem dX7_best_7 : decode cX7_best 7 = .ok (.iload_n 2, 1) := dk_28 (dk_at dksX7_best_0 7 rfl rfl)
theorem dX7_best_8 : decode cX7_best 8 = .ok (.iconst 1, 1) := dk_4 (dk_at dksX7_best_0 8 rfl rfl)
theorem dX7_best_9 : decode cX7_best 9 = .ok (.iconst 3, 1) := dk_6 (dk_at dksX7_best_0 9 rfl rfl)
theorem dX7_best_10 : decode cX7_best 10 = .ok (.invokevirtual 371, 3) := dk_182 1 115 (dk_at dksX7_best_0 10 rfl rfl)
theorem dX7_best_13 : decode cX7_best 13 = .ok (.istore_n 3, 1) := dk_62 (dk_at dksX7_best_0 13 rfl rfl)
theorem dX7_best_14 : decode cX7_best 14 = .ok (.iload_n 3, 1) := dk_29 (dk_at dksX7_best_0 14 rfl rfl)
theorem dX7_best_15 : decode cX7_best 15 = .ok (.ifCond .le 11, 3) := dk_158 0 11 (dk_at dksX7_best_0 15 rfl rfl)
theorem dX7_best_18 : decode cX7_best 18 = .ok (.aload_n 0, 1) := dk_42 (dk_at dksX7_best_0 18 rfl rfl)
theorem dX7_best_19 : decode cX7_best 19 = .ok (.iload_n 3, 1) := dk_29 (dk_at dksX7_best_0 19 rfl rfl)
theorem dX7_best_20 : decode cX7_best 20 = .ok (.invokevirtual 57, 3) := dk_182 0 57 (dk_at dksX7_best_0 20 rfl rfl)
theorem dX7_best_23 : decode cX7_best 23 = .ok (.goto 13, 3) := dk_167 0 13 (dk_at dksX7_best_1 0 rfl rfl)
theorem dX7_best_26 : decode cX7_best 26 = .ok (.aload_n 0, 1) := dk_42 (dk_at dksX7_best_1 3 rfl rfl)
theorem dX7_best_27 : decode cX7_best 27 = .ok (.aload_n 0, 1) := dk_42 (dk_at dksX7_best_1 4 rfl rfl)
theorem dX7_best_28 : decode cX7_best 28 = .ok (.iload_n 1, 1) := dk_27 (dk_at dksX7_best_1 5 rfl rfl)
theorem dX7_best_29 : decode cX7_best 29 = .ok (.iload_n 2, 1) := dk_28 (dk_at dksX7_best_1 6 rfl rfl)
theorem dX7_best_30 : decode cX7_best 30 = .ok (.invokevirtual 375, 3) := dk_182 1 119 (dk_at dksX7_best_1 7 rfl rfl)
theorem dX7_best_33 : decode cX7_best 33 = .ok (.invokevirtual 61, 3) := dk_182 0 61 (dk_at dksX7_best_1 10 rfl rfl)
theorem dX7_best_36 : decode cX7_best 36 = .ok (.ireturn, 1) := dk_172 (dk_at dksX7_best_1 13 rfl rfl)
abbrev cX7_refusesNumber : ByteArray := prog_14_method_78_code
def yX7_refusesNumber : MethodName := ⟨RX7, "refusesNumber", "(IIII)I"⟩
def dkwX7_refusesNumber_1 : List UInt8 := [167, 0, 22, 42, 180, 0, 17, 16, 42, 46, 27, 184, 0, 235, 153, 0, 7, 3, 167, 0, 4, 8, 172]
abbrev dktX7_refusesNumber_1 : List UInt8 := dkwX7_refusesNumber_1 ++ []
def dkwX7_refusesNumber_0 : List UInt8 := [42, 27, 182, 1, 35, 154, 0, 7, 4, 167, 0, 36, 28, 29, 21, 4, 184, 0, 130, 154, 0, 7, 5]
abbrev dktX7_refusesNumber_0 : List UInt8 := dkwX7_refusesNumber_0 ++ dktX7_refusesNumber_1
theorem dksX7_refusesNumber_0 : cX7_refusesNumber.data.toList.drop 0 = dktX7_refusesNumber_0 := by decide +kernel
theorem dksX7_refusesNumber_1 : cX7_refusesNumber.data.toList.drop 23 = dktX7_refusesNumber_1 := dk_seg dksX7_refusesNumber_0 23 rfl rfl
theorem dX7_refusesNumber_0 : decode cX7_refusesNumber 0 = .ok (.aload_n 0, 1) := dk_42 (dk_at dksX7_refusesNumber_0 0 rfl rfl)
theorem dX7_refusesNumber_1 : decode cX7_refusesNumber 1 = .ok (.iload_n 1, 1) := dk_27 (dk_at dksX7_refusesNumber_0 1 rfl rfl)
theorem dX7_refusesNumber_2 : decode cX7_refusesNumber 2 = .ok (.invokevirtual 291, 3) := dk_182 1 35 (dk_at dksX7_refusesNumber_0 2 rfl rfl)
theorem dX7_refusesNumber_5 : decode cX7_refusesNumber 5 = .ok (.ifCond .ne 7, 3) := dk_154 0 7 (dk_at dksX7_refusesNumber_0 5 rfl rfl)
theorem dX7_refusesNumber_8 : decode cX7_refusesNumber 8 = .ok (.iconst 1, 1) := dk_4 (dk_at dksX7_refusesNumber_0 8 rfl rfl)
theorem dX7_refusesNumber_9 : decode cX7_refusesNumber 9 = .ok (.goto 36, 3) := dk_167 0 36 (dk_at dksX7_refusesNumber_0 9 rfl rfl)
theorem dX7_refusesNumber_12 : decode cX7_refusesNumber 12 = .ok (.iload_n 2, 1) := dk_28 (dk_at dksX7_refusesNumber_0 12 rfl rfl)
theorem dX7_refusesNumber_13 : decode cX7_refusesNumber 13 = .ok (.iload_n 3, 1) := dk_29 (dk_at dksX7_refusesNumber_0 13 rfl rfl)
theorem dX7_refusesNumber_14 : decode cX7_refusesNumber 14 = .ok (.iload 4, 2) := dk_21 4 (dk_at dksX7_refusesNumber_0 14 rfl rfl)
theorem dX7_refusesNumber_16 : decode cX7_refusesNumber 16 = .ok (.invokestatic 130, 3) := dk_184 0 130 (dk_at dksX7_refusesNumber_0 16 rfl rfl)
theorem dX7_refusesNumber_19 : decode cX7_refusesNumber 19 = .ok (.ifCond .ne 7, 3) := dk_154 0 7 (dk_at dksX7_refusesNumber_0 19 rfl rfl)
theorem dX7_refusesNumber_22 : decode cX7_refusesNumber 22 = .ok (.iconst 2, 1) := dk_5 (dk_at dksX7_refusesNumber_0 22 rfl rfl)
theorem dX7_refusesNumber_23 : decode cX7_refusesNumber 23 = .ok (.goto 22, 3) := dk_167 0 22 (dk_at dksX7_refusesNumber_1 0 rfl rfl)
theorem dX7_refusesNumber_26 : decode cX7_refusesNumber 26 = .ok (.aload_n 0, 1) := dk_42 (dk_at dksX7_refusesNumber_1 3 rfl rfl)
theorem dX7_refusesNumber_27 : decode cX7_refusesNumber 27 = .ok (.getfield 17, 3) := dk_180 0 17 (dk_at dksX7_refusesNumber_1 4 rfl rfl)
theorem dX7_refusesNumber_30 : decode cX7_refusesNumber 30 = .ok (.bipush 42, 2) := dk_16 42 (dk_at dksX7_refusesNumber_1 7 rfl rfl)
theorem dX7_refusesNumber_32 : decode cX7_refusesNumber 32 = .ok (.iaload, 1) := dk_46 (dk_at dksX7_refusesNumber_1 9 rfl rfl)
theorem dX7_refusesNumber_33 : decode cX7_refusesNumber 33 = .ok (.iload_n 1, 1) := dk_27 (dk_at dksX7_refusesNumber_1 10 rfl rfl)
theorem dX7_refusesNumber_34 : decode cX7_refusesNumber 34 = .ok (.invokestatic 235, 3) := dk_184 0 235 (dk_at dksX7_refusesNumber_1 11 rfl rfl)
theorem dX7_refusesNumber_37 : decode cX7_refusesNumber 37 = .ok (.ifCond .eq 7, 3) := dk_153 0 7 (dk_at dksX7_refusesNumber_1 14 rfl rfl)
theorem dX7_refusesNumber_40 : decode cX7_refusesNumber 40 = .ok (.iconst 0, 1) := dk_3 (dk_at dksX7_refusesNumber_1 17 rfl rfl)
theorem dX7_refusesNumber_41 : decode cX7_refusesNumber 41 = .ok (.goto 4, 3) := dk_167 0 4 (dk_at dksX7_refusesNumber_1 18 rfl rfl)
theorem dX7_refusesNumber_44 : decode cX7_refusesNumber 44 = .ok (.iconst 5, 1) := dk_8 (dk_at dksX7_refusesNumber_1 21 rfl rfl)
theorem dX7_refusesNumber_45 : decode cX7_refusesNumber 45 = .ok (.ireturn, 1) := dk_172 (dk_at dksX7_refusesNumber_1 22 rfl rfl)
abbrev cX7_bestRow : ByteArray := prog_14_method_77_code
def yX7_bestRow : MethodName := ⟨RX7, "bestRow", "(II)I"⟩
def dkwX7_bestRow_8 : List UInt8 := [54, 6, 132, 7, 1, 167, 255, 116, 21, 6, 172]
abbrev dktX7_bestRow_8 : List UInt8 := dkwX7_bestRow_8 ++ []
def dkwX7_bestRow_7 : List UInt8 := [55, 11, 22, 11, 42, 180, 1, 109, 148, 157, 0, 6, 167, 0, 13, 42, 22, 11, 181, 1, 109, 21, 9]
abbrev dktX7_bestRow_7 : List UInt8 := dkwX7_bestRow_7 ++ dktX7_bestRow_8
def dkwX7_bestRow_6 : List UInt8 := [100, 182, 1, 112, 132, 11, 1, 167, 255, 184, 21, 10, 154, 0, 6, 167, 0, 33, 42, 27, 182, 1, 100]
abbrev dktX7_bestRow_6 : List UInt8 := dkwX7_bestRow_6 ++ dktX7_bestRow_7
def dkwX7_bestRow_5 : List UInt8 := [167, 0, 28, 21, 5, 21, 12, 4, 100, 184, 0, 235, 54, 10, 21, 10, 153, 0, 12, 42, 27, 21, 12, 4]
abbrev dktX7_bestRow_5 : List UInt8 := dkwX7_bestRow_5 ++ dktX7_bestRow_6
def dkwX7_bestRow_4 : List UInt8 := [21, 7, 21, 8, 108, 29, 112, 54, 12, 16, 10, 21, 9, 104, 21, 12, 96, 54, 9, 21, 12, 154, 0, 6]
abbrev dktX7_bestRow_4 : List UInt8 := dkwX7_bestRow_4 ++ dktX7_bestRow_5
def dkwX7_bestRow_3 : List UInt8 := [182, 1, 59, 3, 54, 11, 21, 11, 28, 162, 0, 72, 21, 10, 153, 0, 67, 21, 8, 29, 108, 54, 8]
abbrev dktX7_bestRow_3 : List UInt8 := dkwX7_bestRow_3 ++ dktX7_bestRow_4
def dkwX7_bestRow_2 : List UInt8 := [167, 255, 241, 3, 54, 7, 21, 7, 21, 4, 162, 0, 139, 21, 4, 54, 8, 3, 54, 9, 4, 54, 10, 42]
abbrev dktX7_bestRow_2 : List UInt8 := dkwX7_bestRow_2 ++ dktX7_bestRow_3
def dkwX7_bestRow_1 : List UInt8 := [20, 1, 107, 181, 1, 109, 3, 54, 7, 21, 7, 28, 162, 0, 15, 21, 4, 29, 104, 54, 4, 132, 7, 1]
abbrev dktX7_bestRow_1 : List UInt8 := dkwX7_bestRow_1 ++ dktX7_bestRow_2
def dkwX7_bestRow_0 : List UInt8 := [42, 180, 1, 24, 180, 0, 170, 4, 96, 62, 4, 54, 4, 42, 27, 182, 1, 62, 54, 5, 3, 54, 6, 42]
abbrev dktX7_bestRow_0 : List UInt8 := dkwX7_bestRow_0 ++ dktX7_bestRow_1
theorem dksX7_bestRow_0 : cX7_bestRow.data.toList.drop 0 = dktX7_bestRow_0 := by decide +kernel
theorem dksX7_bestRow_1 : cX7_bestRow.data.toList.drop 24 = dktX7_bestRow_1 := dk_seg dksX7_bestRow_0 24 rfl rfl
theorem dksX7_bestRow_2 : cX7_bestRow.data.toList.drop 48 = dktX7_bestRow_2 := dk_seg dksX7_bestRow_1 24 rfl rfl
theorem dksX7_bestRow_3 : cX7_bestRow.data.toList.drop 72 = dktX7_bestRow_3 := dk_seg dksX7_bestRow_2 24 rfl rfl
theorem dksX7_bestRow_4 : cX7_bestRow.data.toList.drop 95 = dktX7_bestRow_4 := dk_seg dksX7_bestRow_3 23 rfl rfl
theorem dksX7_bestRow_5 : cX7_bestRow.data.toList.drop 119 = dktX7_bestRow_5 := dk_seg dksX7_bestRow_4 24 rfl rfl
theorem dksX7_bestRow_6 : cX7_bestRow.data.toList.drop 143 = dktX7_bestRow_6 := dk_seg dksX7_bestRow_5 24 rfl rfl
theorem dksX7_bestRow_7 : cX7_bestRow.data.toList.drop 166 = dktX7_bestRow_7 := dk_seg dksX7_bestRow_6 23 rfl rfl
theorem dksX7_bestRow_8 : cX7_bestRow.data.toList.drop 189 = dktX7_bestRow_8 := dk_seg dksX7_bestRow_7 23 rfl rfl
theorem dX7_bestRow_0 : decode cX7_bestRow 0 = .ok (.aload_n 0, 1) := dk_42 (dk_at dksX7_bestRow_0 0 rfl rfl)
theorem dX7_bestRow_1 : decode cX7_bestRow 1 = .ok (.getfield 280, 3) := dk_180 1 24 (dk_at dksX7_bestRow_0 1 rfl rfl)
theorem dX7_bestRow_4 : decode cX7_bestRow 4 = .ok (.getfield 170, 3) := dk_180 0 170 (dk_at dksX7_bestRow_0 4 rfl rfl)
theorem dX7_bestRow_7 : decode cX7_bestRow 7 = .ok (.iconst 1, 1) := dk_4 (dk_at dksX7_bestRow_0 7 rfl rfl)
theorem dX7_bestRow_8 : decode cX7_bestRow 8 = .ok (.iadd, 1) := dk_96 (dk_at dksX7_bestRow_0 8 rfl rfl)
theorem dX7_bestRow_9 : decode cX7_bestRow 9 = .ok (.istore_n 3, 1) := dk_62 (dk_at dksX7_bestRow_0 9 rfl rfl)
theorem dX7_bestRow_10 : decode cX7_bestRow 10 = .ok (.iconst 1, 1) := dk_4 (dk_at dksX7_bestRow_0 10 rfl rfl)
theorem dX7_bestRow_11 : decode cX7_bestRow 11 = .ok (.istore 4, 2) := dk_54 4 (dk_at dksX7_bestRow_0 11 rfl rfl)
theorem dX7_bestRow_13 : decode cX7_bestRow 13 = .ok (.aload_n 0, 1) := dk_42 (dk_at dksX7_bestRow_0 13 rfl rfl)
theorem dX7_bestRow_14 : decode cX7_bestRow 14 = .ok (.iload_n 1, 1) := dk_27 (dk_at dksX7_bestRow_0 14 rfl rfl)
theorem dX7_bestRow_15 : decode cX7_bestRow 15 = .ok (.invokevirtual 318, 3) := dk_182 1 62 (dk_at dksX7_bestRow_0 15 rfl rfl)
theorem dX7_bestRow_18 : decode cX7_bestRow 18 = .ok (.istore 5, 2) := dk_54 5 (dk_at dksX7_bestRow_0 18 rfl rfl)
theorem dX7_bestRow_20 : decode cX7_bestRow 20 = .ok (.iconst 0, 1) := dk_3 (dk_at dksX7_bestRow_0 20 rfl rfl)
theorem dX7_bestRow_21 : decode cX7_bestRow 21 = .ok (.istore 6, 2) := dk_54 6 (dk_at dksX7_bestRow_0 21 rfl rfl)
theorem dX7_bestRow_23 : decode cX7_bestRow 23 = .ok (.aload_n 0, 1) := dk_42 (dk_at dksX7_bestRow_0 23 rfl rfl)
theorem dX7_bestRow_24 : decode cX7_bestRow 24 = .ok (.ldc2_w 363, 3) := dk_20 1 107 (dk_at dksX7_bestRow_1 0 rfl rfl)
theorem dX7_bestRow_27 : decode cX7_bestRow 27 = .ok (.putfield 365, 3) := dk_181 1 109 (dk_at dksX7_bestRow_1 3 rfl rfl)
theorem dX7_bestRow_30 : decode cX7_bestRow 30 = .ok (.iconst 0, 1) := dk_3 (dk_at dksX7_bestRow_1 6 rfl rfl)
theorem dX7_bestRow_31 : decode cX7_bestRow 31 = .ok (.istore 7, 2) := dk_54 7 (dk_at dksX7_bestRow_1 7 rfl rfl)
theorem dX7_bestRow_33 : decode cX7_bestRow 33 = .ok (.iload 7, 2) := dk_21 7 (dk_at dksX7_bestRow_1 9 rfl rfl)
theorem dX7_bestRow_35 : decode cX7_bestRow 35 = .ok (.iload_n 2, 1) := dk_28 (dk_at dksX7_bestRow_1 11 rfl rfl)
theorem dX7_bestRow_36 : decode cX7_bestRow 36 = .ok (.if_icmp .ge 15, 3) := dk_162 0 15 (dk_at dksX7_bestRow_1 12 rfl rfl)
theorem dX7_bestRow_39 : decode cX7_bestRow 39 = .ok (.iload 4, 2) := dk_21 4 (dk_at dksX7_bestRow_1 15 rfl rfl)
theorem dX7_bestRow_41 : decode cX7_bestRow 41 = .ok (.iload_n 3, 1) := dk_29 (dk_at dksX7_bestRow_1 17 rfl rfl)
theorem dX7_bestRow_42 : decode cX7_bestRow 42 = .ok (.imul, 1) := dk_104 (dk_at dksX7_bestRow_1 18 rfl rfl)
theorem dX7_bestRow_43 : decode cX7_bestRow 43 = .ok (.istore 4, 2) := dk_54 4 (dk_at dksX7_bestRow_1 19 rfl rfl)
theorem dX7_bestRow_45 : decode cX7_bestRow 45 = .ok (.iinc 7 1, 3) := dk_132 7 1 (dk_at dksX7_bestRow_1 21 rfl rfl)
theorem dX7_bestRow_48 : decode cX7_bestRow 48 = .ok (.goto (-15), 3) := dk_167 255 241 (dk_at dksX7_bestRow_2 0 rfl rfl)
theorem dX7_bestRow_51 : decode cX7_bestRow 51 = .ok (.iconst 0, 1) := dk_3 (dk_at dksX7_bestRow_2 3 rfl rfl)
theorem dX7_bestRow_52 : decode cX7_bestRow 52 = .ok (.istore 7, 2) := dk_54 7 (dk_at dksX7_bestRow_2 4 rfl rfl)
theorem dX7_bestRow_54 : decode cX7_bestRow 54 = .ok (.iload 7, 2) := dk_21 7 (dk_at dksX7_bestRow_2 6 rfl rfl)
theorem dX7_bestRow_56 : decode cX7_bestRow 56 = .ok (.iload 4, 2) := dk_21 4 (dk_at dksX7_bestRow_2 8 rfl rfl)
theorem dX7_bestRow_58 : decode cX7_bestRow 58 = .ok (.if_icmp .ge 139, 3) := dk_162 0 139 (dk_at dksX7_bestRow_2 10 rfl rfl)
theorem dX7_bestRow_61 : decode cX7_bestRow 61 = .ok (.iload 4, 2) := dk_21 4 (dk_at dksX7_bestRow_2 13 rfl rfl)
theorem dX7_bestRow_63 : decode cX7_bestRow 63 = .ok (.istore 8, 2) := dk_54 8 (dk_at dksX7_bestRow_2 15 rfl rfl)
theorem dX7_bestRow_65 : decode cX7_bestRow 65 = .ok (.iconst 0, 1) := dk_3 (dk_at dksX7_bestRow_2 17 rfl rfl)
theorem dX7_bestRow_66 : decode cX7_bestRow 66 = .ok (.istore 9, 2) := dk_54 9 (dk_at dksX7_bestRow_2 18 rfl rfl)
theorem dX7_bestRow_68 : decode cX7_bestRow 68 = .ok (.iconst 1, 1) := dk_4 (dk_at dksX7_bestRow_2 20 rfl rfl)
theorem dX7_bestRow_69 : decode cX7_bestRow 69 = .ok (.istore 10, 2) := dk_54 10 (dk_at dksX7_bestRow_2 21 rfl rfl)
theorem dX7_bestRow_71 : decode cX7_bestRow 71 = .ok (.aload_n 0, 1) := dk_42 (dk_at dksX7_bestRow_2 23 rfl rfl)
theorem dX7_bestRow_72 : decode cX7_bestRow 72 = .ok (.invokevirtual 315, 3) := dk_182 1 59 (dk_at dksX7_bestRow_3 0 rfl rfl)
theorem dX7_bestRow_75 : decode cX7_bestRow 75 = .ok (.iconst 0, 1) := dk_3 (dk_at dksX7_bestRow_3 3 rfl rfl)
theorem dX7_bestRow_76 : decode cX7_bestRow 76 = .ok (.istore 11, 2) := dk_54 11 (dk_at dksX7_bestRow_3 4 rfl rfl)
theorem dX7_bestRow_78 : decode cX7_bestRow 78 = .ok (.iload 11, 2) := dk_21 11 (dk_at dksX7_bestRow_3 6 rfl rfl)
theorem dX7_bestRow_80 : decode cX7_bestRow 80 = .ok (.iload_n 2, 1) := dk_28 (dk_at dksX7_bestRow_3 8 rfl rfl)
theorem dX7_bestRow_81 : decode cX7_bestRow 81 = .ok (.if_icmp .ge 72, 3) := dk_162 0 72 (dk_at dksX7_bestRow_3 9 rfl rfl)
theorem dX7_bestRow_84 : decode cX7_bestRow 84 = .ok (.iload 10, 2) := dk_21 10 (dk_at dksX7_bestRow_3 12 rfl rfl)
theorem dX7_bestRow_86 : decode cX7_bestRow 86 = .ok (.ifCond .eq 67, 3) := dk_153 0 67 (dk_at dksX7_bestRow_3 14 rfl rfl)
theorem dX7_bestRow_89 : decode cX7_bestRow 89 = .ok (.iload 8, 2) := dk_21 8 (dk_at dksX7_bestRow_3 17 rfl rfl)
theorem dX7_bestRow_91 : decode cX7_bestRow 91 = .ok (.iload_n 3, 1) := dk_29 (dk_at dksX7_bestRow_3 19 rfl rfl)
theorem dX7_bestRow_92 : decode cX7_bestRow 92 = .ok (.idiv, 1) := dk_108 (dk_at dksX7_bestRow_3 20 rfl rfl)
theorem dX7_bestRow_93 : decode cX7_bestRow 93 = .ok (.istore 8, 2) := dk_54 8 (dk_at dksX7_bestRow_3 21 rfl rfl)
theorem dX7_bestRow_95 : decode cX7_bestRow 95 = .ok (.iload 7, 2) := dk_21 7 (dk_at dksX7_bestRow_4 0 rfl rfl)
theorem dX7_bestRow_97 : decode cX7_bestRow 97 = .ok (.iload 8, 2) := dk_21 8 (dk_at dksX7_bestRow_4 2 rfl rfl)
theorem dX7_bestRow_99 : decode cX7_bestRow 99 = .ok (.idiv, 1) := dk_108 (dk_at dksX7_bestRow_4 4 rfl rfl)
theorem dX7_bestRow_100 : decode cX7_bestRow 100 = .ok (.iload_n 3, 1) := dk_29 (dk_at dksX7_bestRow_4 5 rfl rfl)
theorem dX7_bestRow_101 : decode cX7_bestRow 101 = .ok (.irem, 1) := dk_112 (dk_at dksX7_bestRow_4 6 rfl rfl)
theorem dX7_bestRow_102 : decode cX7_bestRow 102 = .ok (.istore 12, 2) := dk_54 12 (dk_at dksX7_bestRow_4 7 rfl rfl)
theorem dX7_bestRow_104 : decode cX7_bestRow 104 = .ok (.bipush 10, 2) := dk_16 10 (dk_at dksX7_bestRow_4 9 rfl rfl)
theorem dX7_bestRow_106 : decode cX7_bestRow 106 = .ok (.iload 9, 2) := dk_21 9 (dk_at dksX7_bestRow_4 11 rfl rfl)
theorem dX7_bestRow_108 : decode cX7_bestRow 108 = .ok (.imul, 1) := dk_104 (dk_at dksX7_bestRow_4 13 rfl rfl)
theorem dX7_bestRow_109 : decode cX7_bestRow 109 = .ok (.iload 12, 2) := dk_21 12 (dk_at dksX7_bestRow_4 14 rfl rfl)
theorem dX7_bestRow_111 : decode cX7_bestRow 111 = .ok (.iadd, 1) := dk_96 (dk_at dksX7_bestRow_4 16 rfl rfl)
theorem dX7_bestRow_112 : decode cX7_bestRow 112 = .ok (.istore 9, 2) := dk_54 9 (dk_at dksX7_bestRow_4 17 rfl rfl)
theorem dX7_bestRow_114 : decode cX7_bestRow 114 = .ok (.iload 12, 2) := dk_21 12 (dk_at dksX7_bestRow_4 19 rfl rfl)
theorem dX7_bestRow_116 : decode cX7_bestRow 116 = .ok (.ifCond .ne 6, 3) := dk_154 0 6 (dk_at dksX7_bestRow_4 21 rfl rfl)
theorem dX7_bestRow_119 : decode cX7_bestRow 119 = .ok (.goto 28, 3) := dk_167 0 28 (dk_at dksX7_bestRow_5 0 rfl rfl)
theorem dX7_bestRow_122 : decode cX7_bestRow 122 = .ok (.iload 5, 2) := dk_21 5 (dk_at dksX7_bestRow_5 3 rfl rfl)
theorem dX7_bestRow_124 : decode cX7_bestRow 124 = .ok (.iload 12, 2) := dk_21 12 (dk_at dksX7_bestRow_5 5 rfl rfl)
theorem dX7_bestRow_126 : decode cX7_bestRow 126 = .ok (.iconst 1, 1) := dk_4 (dk_at dksX7_bestRow_5 7 rfl rfl)
theorem dX7_bestRow_127 : decode cX7_bestRow 127 = .ok (.isub, 1) := dk_100 (dk_at dksX7_bestRow_5 8 rfl rfl)
theorem dX7_bestRow_128 : decode cX7_bestRow 128 = .ok (.invokestatic 235, 3) := dk_184 0 235 (dk_at dksX7_bestRow_5 9 rfl rfl)
theorem dX7_bestRow_131 : decode cX7_bestRow 131 = .ok (.istore 10, 2) := dk_54 10 (dk_at dksX7_bestRow_5 12 rfl rfl)
theorem dX7_bestRow_133 : decode cX7_bestRow 133 = .ok (.iload 10, 2) := dk_21 10 (dk_at dksX7_bestRow_5 14 rfl rfl)
theorem dX7_bestRow_135 : decode cX7_bestRow 135 = .ok (.ifCond .eq 12, 3) := dk_153 0 12 (dk_at dksX7_bestRow_5 16 rfl rfl)
theorem dX7_bestRow_138 : decode cX7_bestRow 138 = .ok (.aload_n 0, 1) := dk_42 (dk_at dksX7_bestRow_5 19 rfl rfl)
theorem dX7_bestRow_139 : decode cX7_bestRow 139 = .ok (.iload_n 1, 1) := dk_27 (dk_at dksX7_bestRow_5 20 rfl rfl)
theorem dX7_bestRow_140 : decode cX7_bestRow 140 = .ok (.iload 12, 2) := dk_21 12 (dk_at dksX7_bestRow_5 21 rfl rfl)
theorem dX7_bestRow_142 : decode cX7_bestRow 142 = .ok (.iconst 1, 1) := dk_4 (dk_at dksX7_bestRow_5 23 rfl rfl)
theorem dX7_bestRow_143 : decode cX7_bestRow 143 = .ok (.isub, 1) := dk_100 (dk_at dksX7_bestRow_6 0 rfl rfl)
theorem dX7_bestRow_144 : decode cX7_bestRow 144 = .ok (.invokevirtual 368, 3) := dk_182 1 112 (dk_at dksX7_bestRow_6 1 rfl rfl)
theorem dX7_bestRow_147 : decode cX7_bestRow 147 = .ok (.iinc 11 1, 3) := dk_132 11 1 (dk_at dksX7_bestRow_6 4 rfl rfl)
theorem dX7_bestRow_150 : decode cX7_bestRow 150 = .ok (.goto (-72), 3) := dk_167 255 184 (dk_at dksX7_bestRow_6 7 rfl rfl)
theorem dX7_bestRow_153 : decode cX7_bestRow 153 = .ok (.iload 10, 2) := dk_21 10 (dk_at dksX7_bestRow_6 10 rfl rfl)
theorem dX7_bestRow_155 : decode cX7_bestRow 155 = .ok (.ifCond .ne 6, 3) := dk_154 0 6 (dk_at dksX7_bestRow_6 12 rfl rfl)
theorem dX7_bestRow_158 : decode cX7_bestRow 158 = .ok (.goto 33, 3) := dk_167 0 33 (dk_at dksX7_bestRow_6 15 rfl rfl)
theorem dX7_bestRow_161 : decode cX7_bestRow 161 = .ok (.aload_n 0, 1) := dk_42 (dk_at dksX7_bestRow_6 18 rfl rfl)
theorem dX7_bestRow_162 : decode cX7_bestRow 162 = .ok (.iload_n 1, 1) := dk_27 (dk_at dksX7_bestRow_6 19 rfl rfl)
theorem dX7_bestRow_163 : decode cX7_bestRow 163 = .ok (.invokevirtual 356, 3) := dk_182 1 100 (dk_at dksX7_bestRow_6 20 rfl rfl)
theorem dX7_bestRow_166 : decode cX7_bestRow 166 = .ok (.lstore 11, 2) := dk_55 11 (dk_at dksX7_bestRow_7 0 rfl rfl)
theorem dX7_bestRow_168 : decode cX7_bestRow 168 = .ok (.lload 11, 2) := dk_22 11 (dk_at dksX7_bestRow_7 2 rfl rfl)
theorem dX7_bestRow_170 : decode cX7_bestRow 170 = .ok (.aload_n 0, 1) := dk_42 (dk_at dksX7_bestRow_7 4 rfl rfl)
theorem dX7_bestRow_171 : decode cX7_bestRow 171 = .ok (.getfield 365, 3) := dk_180 1 109 (dk_at dksX7_bestRow_7 5 rfl rfl)
theorem dX7_bestRow_174 : decode cX7_bestRow 174 = .ok (.lcmp, 1) := dk_148 (dk_at dksX7_bestRow_7 8 rfl rfl)
theorem dX7_bestRow_175 : decode cX7_bestRow 175 = .ok (.ifCond .gt 6, 3) := dk_157 0 6 (dk_at dksX7_bestRow_7 9 rfl rfl)
theorem dX7_bestRow_178 : decode cX7_bestRow 178 = .ok (.goto 13, 3) := dk_167 0 13 (dk_at dksX7_bestRow_7 12 rfl rfl)
theorem dX7_bestRow_181 : decode cX7_bestRow 181 = .ok (.aload_n 0, 1) := dk_42 (dk_at dksX7_bestRow_7 15 rfl rfl)
theorem dX7_bestRow_182 : decode cX7_bestRow 182 = .ok (.lload 11, 2) := dk_22 11 (dk_at dksX7_bestRow_7 16 rfl rfl)
theorem dX7_bestRow_184 : decode cX7_bestRow 184 = .ok (.putfield 365, 3) := dk_181 1 109 (dk_at dksX7_bestRow_7 18 rfl rfl)
theorem dX7_bestRow_187 : decode cX7_bestRow 187 = .ok (.iload 9, 2) := dk_21 9 (dk_at dksX7_bestRow_7 21 rfl rfl)
theorem dX7_bestRow_189 : decode cX7_bestRow 189 = .ok (.istore 6, 2) := dk_54 6 (dk_at dksX7_bestRow_8 0 rfl rfl)
theorem dX7_bestRow_191 : decode cX7_bestRow 191 = .ok (.iinc 7 1, 3) := dk_132 7 1 (dk_at dksX7_bestRow_8 2 rfl rfl)
theorem dX7_bestRow_194 : decode cX7_bestRow 194 = .ok (.goto (-140), 3) := dk_167 255 116 (dk_at dksX7_bestRow_8 5 rfl rfl)
theorem dX7_bestRow_197 : decode cX7_bestRow 197 = .ok (.iload 6, 2) := dk_21 6 (dk_at dksX7_bestRow_8 8 rfl rfl)
theorem dX7_bestRow_199 : decode cX7_bestRow 199 = .ok (.ireturn, 1) := dk_172 (dk_at dksX7_bestRow_8 10 rfl rfl)
abbrev cX7_asks : ByteArray := prog_14_method_76_code
def yX7_asks : MethodName := ⟨RX7, "asks", "(II)V"⟩
def dkwX7_asks_3 : List UInt8 := [29, 100, 79, 42, 180, 0, 21, 27, 92, 46, 29, 96, 79, 177]
abbrev dktX7_asks_3 : List UInt8 := dkwX7_asks_3 ++ []
def dkwX7_asks_2 : List UInt8 := [42, 180, 0, 21, 28, 46, 167, 0, 10, 42, 180, 1, 24, 180, 0, 198, 62, 42, 180, 0, 21, 28, 92, 46]
abbrev dktX7_asks_2 : List UInt8 := dkwX7_asks_2 ++ dktX7_asks_3
def dkwX7_asks_1 : List UInt8 := [42, 180, 0, 21, 16, 44, 46, 79, 42, 180, 0, 21, 28, 46, 42, 180, 1, 24, 180, 0, 198, 162, 0, 12]
abbrev dktX7_asks_1 : List UInt8 := dkwX7_asks_1 ++ dktX7_asks_2
def dkwX7_asks_0 : List UInt8 := [42, 180, 0, 21, 16, 44, 92, 46, 4, 96, 79, 42, 180, 0, 21, 16, 6, 16, 6, 27, 104, 96, 28, 96]
abbrev dktX7_asks_0 : List UInt8 := dkwX7_asks_0 ++ dktX7_asks_1
theorem dksX7_asks_0 : cX7_asks.data.toList.drop 0 = dktX7_asks_0 := by decide +kernel
theorem dksX7_asks_1 : cX7_asks.data.toList.drop 24 = dktX7_asks_1 := dk_seg dksX7_asks_0 24 rfl rfl
theorem dksX7_asks_2 : cX7_asks.data.toList.drop 48 = dktX7_asks_2 := dk_seg dksX7_asks_1 24 rfl rfl
theorem dksX7_asks_3 : cX7_asks.data.toList.drop 72 = dktX7_asks_3 := dk_seg dksX7_asks_2 24 rfl rfl
theorem dX7_asks_0 : decode cX7_asks 0 = .ok (.aload_n 0, 1) := dk_42 (dk_at dksX7_asks_0 0 rfl rfl)
theorem dX7_asks_1 : decode cX7_asks 1 = .ok (.getfield 21, 3) := dk_180 0 21 (dk_at dksX7_asks_0 1 rfl rfl)
theorem dX7_asks_4 : decode cX7_asks 4 = .ok (.bipush 44, 2) := dk_16 44 (dk_at dksX7_asks_0 4 rfl rfl)
theorem dX7_asks_6 : decode cX7_asks 6 = .ok (.dup2, 1) := dk_92 (dk_at dksX7_asks_0 6 rfl rfl)
theorem dX7_asks_7 : decode cX7_asks 7 = .ok (.iaload, 1) := dk_46 (dk_at dksX7_asks_0 7 rfl rfl)
theorem dX7_asks_8 : decode cX7_asks 8 = .ok (.iconst 1, 1) := dk_4 (dk_at dksX7_asks_0 8 rfl rfl)
theorem dX7_asks_9 : decode cX7_asks 9 = .ok (.iadd, 1) := dk_96 (dk_at dksX7_asks_0 9 rfl rfl)
theorem dX7_asks_10 : decode cX7_asks 10 = .ok (.iastore, 1) := dk_79 (dk_at dksX7_asks_0 10 rfl rfl)
theorem dX7_asks_11 : decode cX7_asks 11 = .ok (.aload_n 0, 1) := dk_42 (dk_at dksX7_asks_0 11 rfl rfl)
theorem dX7_asks_12 : decode cX7_asks 12 = .ok (.getfield 21, 3) := dk_180 0 21 (dk_at dksX7_asks_0 12 rfl rfl)
theorem dX7_asks_15 : decode cX7_asks 15 = .ok (.bipush 6, 2) := dk_16 6 (dk_at dksX7_asks_0 15 rfl rfl)
theorem dX7_asks_17 : decode cX7_asks 17 = .ok (.bipush 6, 2) := dk_16 6 (dk_at dksX7_asks_0 17 rfl rfl)
theorem dX7_asks_19 : decode cX7_asks 19 = .ok (.iload_n 1, 1) := dk_27 (dk_at dksX7_asks_0 19 rfl rfl)
theorem dX7_asks_20 : decode cX7_asks 20 = .ok (.imul, 1) := dk_104 (dk_at dksX7_asks_0 20 rfl rfl)
theorem dX7_asks_21 : decode cX7_asks 21 = .ok (.iadd, 1) := dk_96 (dk_at dksX7_asks_0 21 rfl rfl)
theorem dX7_asks_22 : decode cX7_asks 22 = .ok (.iload_n 2, 1) := dk_28 (dk_at dksX7_asks_0 22 rfl rfl)
theorem dX7_asks_23 : decode cX7_asks 23 = .ok (.iadd, 1) := dk_96 (dk_at dksX7_asks_0 23 rfl rfl)
theorem dX7_asks_24 : decode cX7_asks 24 = .ok (.aload_n 0, 1) := dk_42 (dk_at dksX7_asks_1 0 rfl rfl)
theorem dX7_asks_25 : decode cX7_asks 25 = .ok (.getfield 21, 3) := dk_180 0 21 (dk_at dksX7_asks_1 1 rfl rfl)
theorem dX7_asks_28 : decode cX7_asks 28 = .ok (.bipush 44, 2) := dk_16 44 (dk_at dksX7_asks_1 4 rfl rfl)
theorem dX7_asks_30 : decode cX7_asks 30 = .ok (.iaload, 1) := dk_46 (dk_at dksX7_asks_1 6 rfl rfl)
theorem dX7_asks_31 : decode cX7_asks 31 = .ok (.iastore, 1) := dk_79 (dk_at dksX7_asks_1 7 rfl rfl)
theorem dX7_asks_32 : decode cX7_asks 32 = .ok (.aload_n 0, 1) := dk_42 (dk_at dksX7_asks_1 8 rfl rfl)
theorem dX7_asks_33 : decode cX7_asks 33 = .ok (.getfield 21, 3) := dk_180 0 21 (dk_at dksX7_asks_1 9 rfl rfl)
theorem dX7_asks_36 : decode cX7_asks 36 = .ok (.iload_n 2, 1) := dk_28 (dk_at dksX7_asks_1 12 rfl rfl)
theorem dX7_asks_37 : decode cX7_asks 37 = .ok (.iaload, 1) := dk_46 (dk_at dksX7_asks_1 13 rfl rfl)
theorem dX7_asks_38 : decode cX7_asks 38 = .ok (.aload_n 0, 1) := dk_42 (dk_at dksX7_asks_1 14 rfl rfl)
theorem dX7_asks_39 : decode cX7_asks 39 = .ok (.getfield 280, 3) := dk_180 1 24 (dk_at dksX7_asks_1 15 rfl rfl)
theorem dX7_asks_42 : decode cX7_asks 42 = .ok (.getfield 198, 3) := dk_180 0 198 (dk_at dksX7_asks_1 18 rfl rfl)
theorem dX7_asks_45 : decode cX7_asks 45 = .ok (.if_icmp .ge 12, 3) := dk_162 0 12 (dk_at dksX7_asks_1 21 rfl rfl)
theorem dX7_asks_48 : decode cX7_asks 48 = .ok (.aload_n 0, 1) := dk_42 (dk_at dksX7_asks_2 0 rfl rfl)
theorem dX7_asks_49 : decode cX7_asks 49 = .ok (.getfield 21, 3) := dk_180 0 21 (dk_at dksX7_asks_2 1 rfl rfl)
theorem dX7_asks_52 : decode cX7_asks 52 = .ok (.iload_n 2, 1) := dk_28 (dk_at dksX7_asks_2 4 rfl rfl)
theorem dX7_asks_53 : decode cX7_asks 53 = .ok (.iaload, 1) := dk_46 (dk_at dksX7_asks_2 5 rfl rfl)
theorem dX7_asks_54 : decode cX7_asks 54 = .ok (.goto 10, 3) := dk_167 0 10 (dk_at dksX7_asks_2 6 rfl rfl)
theorem dX7_asks_57 : decode cX7_asks 57 = .ok (.aload_n 0, 1) := dk_42 (dk_at dksX7_asks_2 9 rfl rfl)
theorem dX7_asks_58 : decode cX7_asks 58 = .ok (.getfield 280, 3) := dk_180 1 24 (dk_at dksX7_asks_2 10 rfl rfl)
theorem dX7_asks_61 : decode cX7_asks 61 = .ok (.getfield 198, 3) := dk_180 0 198 (dk_at dksX7_asks_2 13 rfl rfl)
theorem dX7_asks_64 : decode cX7_asks 64 = .ok (.istore_n 3, 1) := dk_62 (dk_at dksX7_asks_2 16 rfl rfl)
theorem dX7_asks_65 : decode cX7_asks 65 = .ok (.aload_n 0, 1) := dk_42 (dk_at dksX7_asks_2 17 rfl rfl)
theorem dX7_asks_66 : decode cX7_asks 66 = .ok (.getfield 21, 3) := dk_180 0 21 (dk_at dksX7_asks_2 18 rfl rfl)
theorem dX7_asks_69 : decode cX7_asks 69 = .ok (.iload_n 2, 1) := dk_28 (dk_at dksX7_asks_2 21 rfl rfl)
theorem dX7_asks_70 : decode cX7_asks 70 = .ok (.dup2, 1) := dk_92 (dk_at dksX7_asks_2 22 rfl rfl)
theorem dX7_asks_71 : decode cX7_asks 71 = .ok (.iaload, 1) := dk_46 (dk_at dksX7_asks_2 23 rfl rfl)
theorem dX7_asks_72 : decode cX7_asks 72 = .ok (.iload_n 3, 1) := dk_29 (dk_at dksX7_asks_3 0 rfl rfl)
theorem dX7_asks_73 : decode cX7_asks 73 = .ok (.isub, 1) := dk_100 (dk_at dksX7_asks_3 1 rfl rfl)
theorem dX7_asks_74 : decode cX7_asks 74 = .ok (.iastore, 1) := dk_79 (dk_at dksX7_asks_3 2 rfl rfl)
theorem dX7_asks_75 : decode cX7_asks 75 = .ok (.aload_n 0, 1) := dk_42 (dk_at dksX7_asks_3 3 rfl rfl)
theorem dX7_asks_76 : decode cX7_asks 76 = .ok (.getfield 21, 3) := dk_180 0 21 (dk_at dksX7_asks_3 4 rfl rfl)
theorem dX7_asks_79 : decode cX7_asks 79 = .ok (.iload_n 1, 1) := dk_27 (dk_at dksX7_asks_3 7 rfl rfl)
theorem dX7_asks_80 : decode cX7_asks 80 = .ok (.dup2, 1) := dk_92 (dk_at dksX7_asks_3 8 rfl rfl)
theorem dX7_asks_81 : decode cX7_asks 81 = .ok (.iaload, 1) := dk_46 (dk_at dksX7_asks_3 9 rfl rfl)
theorem dX7_asks_82 : decode cX7_asks 82 = .ok (.iload_n 3, 1) := dk_29 (dk_at dksX7_asks_3 10 rfl rfl)
theorem dX7_asks_83 : decode cX7_asks 83 = .ok (.iadd, 1) := dk_96 (dk_at dksX7_asks_3 11 rfl rfl)
theorem dX7_asks_84 : decode cX7_asks 84 = .ok (.iastore, 1) := dk_79 (dk_at dksX7_asks_3 12 rfl rfl)
theorem dX7_asks_85 : decode cX7_asks 85 = .ok (.return_, 1) := dk_177 (dk_at dksX7_asks_3 13 rfl rfl)
abbrev cX7_bestMean : ByteArray := prog_14_method_80_code
def yX7_bestMean : MethodName := ⟨RX7, "bestMean", "(IIZ)J"⟩
def dkwX7_bestMean_2 : List UInt8 := [180, 1, 109, 42, 180, 1, 88, 29, 182, 1, 103, 173]
abbrev dktX7_bestMean_2 : List UInt8 := dkwX7_bestMean_2 ++ []
def dkwX7_bestMean_1 : List UInt8 := [182, 0, 57, 133, 173, 42, 27, 28, 182, 1, 119, 87, 42, 182, 1, 59, 42, 182, 1, 93, 42, 42]
abbrev dktX7_bestMean_1 : List UInt8 := dkwX7_bestMean_1 ++ dktX7_bestMean_2
def dkwX7_bestMean_0 : List UInt8 := [42, 3, 181, 0, 51, 42, 27, 28, 4, 6, 182, 1, 115, 54, 4, 21, 4, 158, 0, 11, 42, 21, 4]
abbrev dktX7_bestMean_0 : List UInt8 := dkwX7_bestMean_0 ++ dktX7_bestMean_1
theorem dksX7_bestMean_0 : cX7_bestMean.data.toList.drop 0 = dktX7_bestMean_0 := by decide +kernel
theorem dksX7_bestMean_1 : cX7_bestMean.data.toList.drop 23 = dktX7_bestMean_1 := dk_seg dksX7_bestMean_0 23 rfl rfl
theorem dksX7_bestMean_2 : cX7_bestMean.data.toList.drop 45 = dktX7_bestMean_2 := dk_seg dksX7_bestMean_1 22 rfl rfl
theorem dX7_bestMean_0 : decode cX7_bestMean 0 = .ok (.aload_n 0, 1) := dk_42 (dk_at dksX7_bestMean_0 0 rfl rfl)
theorem dX7_bestMean_1 : decode cX7_bestMean 1 = .ok (.iconst 0, 1) := dk_3 (dk_at dksX7_bestMean_0 1 rfl rfl)
theorem dX7_bestMean_2 : decode cX7_bestMean 2 = .ok (.putfield 51, 3) := dk_181 0 51 (dk_at dksX7_bestMean_0 2 rfl rfl)
theorem dX7_bestMean_5 : decode cX7_bestMean 5 = .ok (.aload_n 0, 1) := dk_42 (dk_at dksX7_bestMean_0 5 rfl rfl)
theorem dX7_bestMean_6 : decode cX7_bestMean 6 = .ok (.iload_n 1, 1) := dk_27 (dk_at dksX7_bestMean_0 6 rfl rfl)
theorem dX7_bestMean_7 : decode cX7_bestMean 7 = .ok (.iload_n 2, 1) := dk_28 (dk_at dksX7_bestMean_0 7 rfl rfl)
theorem dX7_bestMean_8 : decode cX7_bestMean 8 = .ok (.iconst 1, 1) := dk_4 (dk_at dksX7_bestMean_0 8 rfl rfl)
theorem dX7_bestMean_9 : decode cX7_bestMean 9 = .ok (.iconst 3, 1) := dk_6 (dk_at dksX7_bestMean_0 9 rfl rfl)
theorem dX7_bestMean_10 : decode cX7_bestMean 10 = .ok (.invokevirtual 371, 3) := dk_182 1 115 (dk_at dksX7_bestMean_0 10 rfl rfl)
theorem dX7_bestMean_13 : decode cX7_bestMean 13 = .ok (.istore 4, 2) := dk_54 4 (dk_at dksX7_bestMean_0 13 rfl rfl)
theorem dX7_bestMean_15 : decode cX7_bestMean 15 = .ok (.iload 4, 2) := dk_21 4 (dk_at dksX7_bestMean_0 15 rfl rfl)
theorem dX7_bestMean_17 : decode cX7_bestMean 17 = .ok (.ifCond .le 11, 3) := dk_158 0 11 (dk_at dksX7_bestMean_0 17 rfl rfl)
theorem dX7_bestMean_20 : decode cX7_bestMean 20 = .ok (.aload_n 0, 1) := dk_42 (dk_at dksX7_bestMean_0 20 rfl rfl)
theorem dX7_bestMean_21 : decode cX7_bestMean 21 = .ok (.iload 4, 2) := dk_21 4 (dk_at dksX7_bestMean_0 21 rfl rfl)
theorem dX7_bestMean_23 : decode cX7_bestMean 23 = .ok (.invokevirtual 57, 3) := dk_182 0 57 (dk_at dksX7_bestMean_1 0 rfl rfl)
theorem dX7_bestMean_26 : decode cX7_bestMean 26 = .ok (.i2l, 1) := dk_133 (dk_at dksX7_bestMean_1 3 rfl rfl)
theorem dX7_bestMean_27 : decode cX7_bestMean 27 = .ok (.lreturn, 1) := dk_173 (dk_at dksX7_bestMean_1 4 rfl rfl)
theorem dX7_bestMean_28 : decode cX7_bestMean 28 = .ok (.aload_n 0, 1) := dk_42 (dk_at dksX7_bestMean_1 5 rfl rfl)
theorem dX7_bestMean_29 : decode cX7_bestMean 29 = .ok (.iload_n 1, 1) := dk_27 (dk_at dksX7_bestMean_1 6 rfl rfl)
theorem dX7_bestMean_30 : decode cX7_bestMean 30 = .ok (.iload_n 2, 1) := dk_28 (dk_at dksX7_bestMean_1 7 rfl rfl)
theorem dX7_bestMean_31 : decode cX7_bestMean 31 = .ok (.invokevirtual 375, 3) := dk_182 1 119 (dk_at dksX7_bestMean_1 8 rfl rfl)
theorem dX7_bestMean_34 : decode cX7_bestMean 34 = .ok (.pop, 1) := dk_87 (dk_at dksX7_bestMean_1 11 rfl rfl)
theorem dX7_bestMean_35 : decode cX7_bestMean 35 = .ok (.aload_n 0, 1) := dk_42 (dk_at dksX7_bestMean_1 12 rfl rfl)
theorem dX7_bestMean_36 : decode cX7_bestMean 36 = .ok (.invokevirtual 315, 3) := dk_182 1 59 (dk_at dksX7_bestMean_1 13 rfl rfl)
theorem dX7_bestMean_39 : decode cX7_bestMean 39 = .ok (.aload_n 0, 1) := dk_42 (dk_at dksX7_bestMean_1 16 rfl rfl)
theorem dX7_bestMean_40 : decode cX7_bestMean 40 = .ok (.invokevirtual 349, 3) := dk_182 1 93 (dk_at dksX7_bestMean_1 17 rfl rfl)
theorem dX7_bestMean_43 : decode cX7_bestMean 43 = .ok (.aload_n 0, 1) := dk_42 (dk_at dksX7_bestMean_1 20 rfl rfl)
theorem dX7_bestMean_44 : decode cX7_bestMean 44 = .ok (.aload_n 0, 1) := dk_42 (dk_at dksX7_bestMean_1 21 rfl rfl)
theorem dX7_bestMean_45 : decode cX7_bestMean 45 = .ok (.getfield 365, 3) := dk_180 1 109 (dk_at dksX7_bestMean_2 0 rfl rfl)
theorem dX7_bestMean_48 : decode cX7_bestMean 48 = .ok (.aload_n 0, 1) := dk_42 (dk_at dksX7_bestMean_2 3 rfl rfl)
theorem dX7_bestMean_49 : decode cX7_bestMean 49 = .ok (.getfield 344, 3) := dk_180 1 88 (dk_at dksX7_bestMean_2 4 rfl rfl)
theorem dX7_bestMean_52 : decode cX7_bestMean 52 = .ok (.iload_n 3, 1) := dk_29 (dk_at dksX7_bestMean_2 7 rfl rfl)
theorem dX7_bestMean_53 : decode cX7_bestMean 53 = .ok (.invokevirtual 359, 3) := dk_182 1 103 (dk_at dksX7_bestMean_2 8 rfl rfl)
theorem dX7_bestMean_56 : decode cX7_bestMean 56 = .ok (.lreturn, 1) := dk_173 (dk_at dksX7_bestMean_2 11 rfl rfl)
abbrev cX7_tour : ByteArray := prog_14_method_84_code
def yX7_tour : MethodName := ⟨RX7, "tour", "(II)I"⟩
def dkwX7_tour_1 : List UInt8 := [167, 0, 13, 42, 42, 27, 28, 182, 1, 132, 182, 0, 61, 172]
abbrev dktX7_tour_1 : List UInt8 := dkwX7_tour_1 ++ []
def dkwX7_tour_0 : List UInt8 := [42, 3, 181, 0, 51, 42, 27, 28, 3, 16, 12, 182, 1, 115, 62, 29, 158, 0, 11, 42, 29, 182, 0, 57]
abbrev dktX7_tour_0 : List UInt8 := dkwX7_tour_0 ++ dktX7_tour_1
theorem dksX7_tour_0 : cX7_tour.data.toList.drop 0 = dktX7_tour_0 := by decide +kernel
theorem dksX7_tour_1 : cX7_tour.data.toList.drop 24 = dktX7_tour_1 := dk_seg dksX7_tour_0 24 rfl rfl
theorem dX7_tour_0 : decode cX7_tour 0 = .ok (.aload_n 0, 1) := dk_42 (dk_at dksX7_tour_0 0 rfl rfl)
theorem dX7_tour_1 : decode cX7_tour 1 = .ok (.iconst 0, 1) := dk_3 (dk_at dksX7_tour_0 1 rfl rfl)
theorem dX7_tour_2 : decode cX7_tour 2 = .ok (.putfield 51, 3) := dk_181 0 51 (dk_at dksX7_tour_0 2 rfl rfl)
theorem dX7_tour_5 : decode cX7_tour 5 = .ok (.aload_n 0, 1) := dk_42 (dk_at dksX7_tour_0 5 rfl rfl)
theorem dX7_tour_6 : decode cX7_tour 6 = .ok (.iload_n 1, 1) := dk_27 (dk_at dksX7_tour_0 6 rfl rfl)
theorem dX7_tour_7 : decode cX7_tour 7 = .ok (.iload_n 2, 1) := dk_28 (dk_at dksX7_tour_0 7 rfl rfl)
theorem dX7_tour_8 : decode cX7_tour 8 = .ok (.iconst 0, 1) := dk_3 (dk_at dksX7_tour_0 8 rfl rfl)
theorem dX7_tour_9 : decode cX7_tour 9 = .ok (.bipush 12, 2) := dk_16 12 (dk_at dksX7_tour_0 9 rfl rfl)
theorem dX7_tour_11 : decode cX7_tour 11 = .ok (.invokevirtual 371, 3) := dk_182 1 115 (dk_at dksX7_tour_0 11 rfl rfl)
theorem dX7_tour_14 : decode cX7_tour 14 = .ok (.istore_n 3, 1) := dk_62 (dk_at dksX7_tour_0 14 rfl rfl)
theorem dX7_tour_15 : decode cX7_tour 15 = .ok (.iload_n 3, 1) := dk_29 (dk_at dksX7_tour_0 15 rfl rfl)
theorem dX7_tour_16 : decode cX7_tour 16 = .ok (.ifCond .le 11, 3) := dk_158 0 11 (dk_at dksX7_tour_0 16 rfl rfl)
theorem dX7_tour_19 : decode cX7_tour 19 = .ok (.aload_n 0, 1) := dk_42 (dk_at dksX7_tour_0 19 rfl rfl)
theorem dX7_tour_20 : decode cX7_tour 20 = .ok (.iload_n 3, 1) := dk_29 (dk_at dksX7_tour_0 20 rfl rfl)
theorem dX7_tour_21 : decode cX7_tour 21 = .ok (.invokevirtual 57, 3) := dk_182 0 57 (dk_at dksX7_tour_0 21 rfl rfl)
theorem dX7_tour_24 : decode cX7_tour 24 = .ok (.goto 13, 3) := dk_167 0 13 (dk_at dksX7_tour_1 0 rfl rfl)
theorem dX7_tour_27 : decode cX7_tour 27 = .ok (.aload_n 0, 1) := dk_42 (dk_at dksX7_tour_1 3 rfl rfl)
theorem dX7_tour_28 : decode cX7_tour 28 = .ok (.aload_n 0, 1) := dk_42 (dk_at dksX7_tour_1 4 rfl rfl)
theorem dX7_tour_29 : decode cX7_tour 29 = .ok (.iload_n 1, 1) := dk_27 (dk_at dksX7_tour_1 5 rfl rfl)
theorem dX7_tour_30 : decode cX7_tour 30 = .ok (.iload_n 2, 1) := dk_28 (dk_at dksX7_tour_1 6 rfl rfl)
theorem dX7_tour_31 : decode cX7_tour 31 = .ok (.invokevirtual 388, 3) := dk_182 1 132 (dk_at dksX7_tour_1 7 rfl rfl)
theorem dX7_tour_34 : decode cX7_tour 34 = .ok (.invokevirtual 61, 3) := dk_182 0 61 (dk_at dksX7_tour_1 10 rfl rfl)
theorem dX7_tour_37 : decode cX7_tour 37 = .ok (.ireturn, 1) := dk_172 (dk_at dksX7_tour_1 13 rfl rfl)
abbrev cX7_bestTour : ByteArray := prog_14_method_83_code
def yX7_bestTour : MethodName := ⟨RX7, "bestTour", "(II)I"⟩
def dkwX7_bestTour_5 : List UInt8 := [22, 9, 55, 5, 21, 7, 54, 4, 42, 21, 8, 181, 1, 129, 132, 7, 1, 167, 255, 140, 21, 4, 172]
abbrev dktX7_bestTour_5 : List UInt8 := dkwX7_bestTour_5 ++ []
def dkwX7_bestTour_4 : List UInt8 := [132, 9, 1, 167, 255, 224, 42, 27, 182, 1, 100, 55, 9, 22, 9, 22, 5, 148, 157, 0, 6, 167, 0, 17]
abbrev dktX7_bestTour_4 : List UInt8 := dkwX7_bestTour_4 ++ dktX7_bestTour_5
def dkwX7_bestTour_3 : List UInt8 := [180, 0, 170, 162, 0, 26, 21, 7, 21, 9, 184, 0, 235, 153, 0, 10, 42, 27, 21, 9, 182, 1, 112]
abbrev dktX7_bestTour_3 : List UInt8 := dkwX7_bestTour_3 ++ dktX7_bestTour_4
def dkwX7_bestTour_2 : List UInt8 := [17, 39, 15, 160, 0, 6, 167, 0, 77, 42, 182, 1, 59, 3, 54, 9, 21, 9, 42, 180, 1, 24]
abbrev dktX7_bestTour_2 : List UInt8 := dkwX7_bestTour_2 ++ dktX7_bestTour_3
def dkwX7_bestTour_1 : List UInt8 := [21, 7, 29, 2, 130, 126, 153, 0, 6, 167, 0, 98, 42, 27, 21, 7, 28, 182, 1, 125, 54, 8, 21, 8]
abbrev dktX7_bestTour_1 : List UInt8 := dkwX7_bestTour_1 ++ dktX7_bestTour_2
def dkwX7_bestTour_0 : List UInt8 := [42, 27, 182, 1, 62, 62, 3, 54, 4, 20, 1, 107, 55, 5, 3, 54, 7, 21, 7, 29, 163, 0, 116]
abbrev dktX7_bestTour_0 : List UInt8 := dkwX7_bestTour_0 ++ dktX7_bestTour_1
theorem dksX7_bestTour_0 : cX7_bestTour.data.toList.drop 0 = dktX7_bestTour_0 := by decide +kernel
theorem dksX7_bestTour_1 : cX7_bestTour.data.toList.drop 23 = dktX7_bestTour_1 := dk_seg dksX7_bestTour_0 23 rfl rfl
theorem dksX7_bestTour_2 : cX7_bestTour.data.toList.drop 47 = dktX7_bestTour_2 := dk_seg dksX7_bestTour_1 24 rfl rfl
theorem dksX7_bestTour_3 : cX7_bestTour.data.toList.drop 69 = dktX7_bestTour_3 := dk_seg dksX7_bestTour_2 22 rfl rfl
theorem dksX7_bestTour_4 : cX7_bestTour.data.toList.drop 92 = dktX7_bestTour_4 := dk_seg dksX7_bestTour_3 23 rfl rfl
theorem dksX7_bestTour_5 : cX7_bestTour.data.toList.drop 116 = dktX7_bestTour_5 := dk_seg dksX7_bestTour_4 24 rfl rfl
theorem dX7_bestTour_0 : decode cX7_bestTour 0 = .ok (.aload_n 0, 1) := dk_42 (dk_at dksX7_bestTour_0 0 rfl rfl)
theorem dX7_bestTour_1 : decode cX7_bestTour 1 = .ok (.iload_n 1, 1) := dk_27 (dk_at dksX7_bestTour_0 1 rfl rfl)
theorem dX7_bestTour_2 : decode cX7_bestTour 2 = .ok (.invokevirtual 318, 3) := dk_182 1 62 (dk_at dksX7_bestTour_0 2 rfl rfl)
theorem dX7_bestTour_5 : decode cX7_bestTour 5 = .ok (.istore_n 3, 1) := dk_62 (dk_at dksX7_bestTour_0 5 rfl rfl)
theorem dX7_bestTour_6 : decode cX7_bestTour 6 = .ok (.iconst 0, 1) := dk_3 (dk_at dksX7_bestTour_0 6 rfl rfl)
theorem dX7_bestTour_7 : decode cX7_bestTour 7 = .ok (.istore 4, 2) := dk_54 4 (dk_at dksX7_bestTour_0 7 rfl rfl)
theorem dX7_bestTour_9 : decode cX7_bestTour 9 = .ok (.ldc2_w 363, 3) := dk_20 1 107 (dk_at dksX7_bestTour_0 9 rfl rfl)
theorem dX7_bestTour_12 : decode cX7_bestTour 12 = .ok (.lstore 5, 2) := dk_55 5 (dk_at dksX7_bestTour_0 12 rfl rfl)
theorem dX7_bestTour_14 : decode cX7_bestTour 14 = .ok (.iconst 0, 1) := dk_3 (dk_at dksX7_bestTour_0 14 rfl rfl)
theorem dX7_bestTour_15 : decode cX7_bestTour 15 = .ok (.istore 7, 2) := dk_54 7 (dk_at dksX7_bestTour_0 15 rfl rfl)
theorem dX7_bestTour_17 : decode cX7_bestTour 17 = .ok (.iload 7, 2) := dk_21 7 (dk_at dksX7_bestTour_0 17 rfl rfl)
theorem dX7_bestTour_19 : decode cX7_bestTour 19 = .ok (.iload_n 3, 1) := dk_29 (dk_at dksX7_bestTour_0 19 rfl rfl)
theorem dX7_bestTour_20 : decode cX7_bestTour 20 = .ok (.if_icmp .gt 116, 3) := dk_163 0 116 (dk_at dksX7_bestTour_0 20 rfl rfl)
theorem dX7_bestTour_23 : decode cX7_bestTour 23 = .ok (.iload 7, 2) := dk_21 7 (dk_at dksX7_bestTour_1 0 rfl rfl)
theorem dX7_bestTour_25 : decode cX7_bestTour 25 = .ok (.iload_n 3, 1) := dk_29 (dk_at dksX7_bestTour_1 2 rfl rfl)
theorem dX7_bestTour_26 : decode cX7_bestTour 26 = .ok (.iconst (-1), 1) := dk_2 (dk_at dksX7_bestTour_1 3 rfl rfl)
theorem dX7_bestTour_27 : decode cX7_bestTour 27 = .ok (.ixor, 1) := dk_130 (dk_at dksX7_bestTour_1 4 rfl rfl)
theorem dX7_bestTour_28 : decode cX7_bestTour 28 = .ok (.iand, 1) := dk_126 (dk_at dksX7_bestTour_1 5 rfl rfl)
theorem dX7_bestTour_29 : decode cX7_bestTour 29 = .ok (.ifCond .eq 6, 3) := dk_153 0 6 (dk_at dksX7_bestTour_1 6 rfl rfl)
theorem dX7_bestTour_32 : decode cX7_bestTour 32 = .ok (.goto 98, 3) := dk_167 0 98 (dk_at dksX7_bestTour_1 9 rfl rfl)
theorem dX7_bestTour_35 : decode cX7_bestTour 35 = .ok (.aload_n 0, 1) := dk_42 (dk_at dksX7_bestTour_1 12 rfl rfl)
theorem dX7_bestTour_36 : decode cX7_bestTour 36 = .ok (.iload_n 1, 1) := dk_27 (dk_at dksX7_bestTour_1 13 rfl rfl)
theorem dX7_bestTour_37 : decode cX7_bestTour 37 = .ok (.iload 7, 2) := dk_21 7 (dk_at dksX7_bestTour_1 14 rfl rfl)
theorem dX7_bestTour_39 : decode cX7_bestTour 39 = .ok (.iload_n 2, 1) := dk_28 (dk_at dksX7_bestTour_1 16 rfl rfl)
theorem dX7_bestTour_40 : decode cX7_bestTour 40 = .ok (.invokevirtual 381, 3) := dk_182 1 125 (dk_at dksX7_bestTour_1 17 rfl rfl)
theorem dX7_bestTour_43 : decode cX7_bestTour 43 = .ok (.istore 8, 2) := dk_54 8 (dk_at dksX7_bestTour_1 20 rfl rfl)
theorem dX7_bestTour_45 : decode cX7_bestTour 45 = .ok (.iload 8, 2) := dk_21 8 (dk_at dksX7_bestTour_1 22 rfl rfl)
theorem dX7_bestTour_47 : decode cX7_bestTour 47 = .ok (.sipush 9999, 3) := dk_17 39 15 (dk_at dksX7_bestTour_2 0 rfl rfl)
theorem dX7_bestTour_50 : decode cX7_bestTour 50 = .ok (.if_icmp .ne 6, 3) := dk_160 0 6 (dk_at dksX7_bestTour_2 3 rfl rfl)
theorem dX7_bestTour_53 : decode cX7_bestTour 53 = .ok (.goto 77, 3) := dk_167 0 77 (dk_at dksX7_bestTour_2 6 rfl rfl)
theorem dX7_bestTour_56 : decode cX7_bestTour 56 = .ok (.aload_n 0, 1) := dk_42 (dk_at dksX7_bestTour_2 9 rfl rfl)
theorem dX7_bestTour_57 : decode cX7_bestTour 57 = .ok (.invokevirtual 315, 3) := dk_182 1 59 (dk_at dksX7_bestTour_2 10 rfl rfl)
theorem dX7_bestTour_60 : decode cX7_bestTour 60 = .ok (.iconst 0, 1) := dk_3 (dk_at dksX7_bestTour_2 13 rfl rfl)
theorem dX7_bestTour_61 : decode cX7_bestTour 61 = .ok (.istore 9, 2) := dk_54 9 (dk_at dksX7_bestTour_2 14 rfl rfl)
theorem dX7_bestTour_63 : decode cX7_bestTour 63 = .ok (.iload 9, 2) := dk_21 9 (dk_at dksX7_bestTour_2 16 rfl rfl)
theorem dX7_bestTour_65 : decode cX7_bestTour 65 = .ok (.aload_n 0, 1) := dk_42 (dk_at dksX7_bestTour_2 18 rfl rfl)
theorem dX7_bestTour_66 : decode cX7_bestTour 66 = .ok (.getfield 280, 3) := dk_180 1 24 (dk_at dksX7_bestTour_2 19 rfl rfl)
theorem dX7_bestTour_69 : decode cX7_bestTour 69 = .ok (.getfield 170, 3) := dk_180 0 170 (dk_at dksX7_bestTour_3 0 rfl rfl)
theorem dX7_bestTour_72 : decode cX7_bestTour 72 = .ok (.if_icmp .ge 26, 3) := dk_162 0 26 (dk_at dksX7_bestTour_3 3 rfl rfl)
theorem dX7_bestTour_75 : decode cX7_bestTour 75 = .ok (.iload 7, 2) := dk_21 7 (dk_at dksX7_bestTour_3 6 rfl rfl)
theorem dX7_bestTour_77 : decode cX7_bestTour 77 = .ok (.iload 9, 2) := dk_21 9 (dk_at dksX7_bestTour_3 8 rfl rfl)
theorem dX7_bestTour_79 : decode cX7_bestTour 79 = .ok (.invokestatic 235, 3) := dk_184 0 235 (dk_at dksX7_bestTour_3 10 rfl rfl)
theorem dX7_bestTour_82 : decode cX7_bestTour 82 = .ok (.ifCond .eq 10, 3) := dk_153 0 10 (dk_at dksX7_bestTour_3 13 rfl rfl)
theorem dX7_bestTour_85 : decode cX7_bestTour 85 = .ok (.aload_n 0, 1) := dk_42 (dk_at dksX7_bestTour_3 16 rfl rfl)
theorem dX7_bestTour_86 : decode cX7_bestTour 86 = .ok (.iload_n 1, 1) := dk_27 (dk_at dksX7_bestTour_3 17 rfl rfl)
theorem dX7_bestTour_87 : decode cX7_bestTour 87 = .ok (.iload 9, 2) := dk_21 9 (dk_at dksX7_bestTour_3 18 rfl rfl)
theorem dX7_bestTour_89 : decode cX7_bestTour 89 = .ok (.invokevirtual 368, 3) := dk_182 1 112 (dk_at dksX7_bestTour_3 20 rfl rfl)
theorem dX7_bestTour_92 : decode cX7_bestTour 92 = .ok (.iinc 9 1, 3) := dk_132 9 1 (dk_at dksX7_bestTour_4 0 rfl rfl)
theorem dX7_bestTour_95 : decode cX7_bestTour 95 = .ok (.goto (-32), 3) := dk_167 255 224 (dk_at dksX7_bestTour_4 3 rfl rfl)
theorem dX7_bestTour_98 : decode cX7_bestTour 98 = .ok (.aload_n 0, 1) := dk_42 (dk_at dksX7_bestTour_4 6 rfl rfl)
theorem dX7_bestTour_99 : decode cX7_bestTour 99 = .ok (.iload_n 1, 1) := dk_27 (dk_at dksX7_bestTour_4 7 rfl rfl)
theorem dX7_bestTour_100 : decode cX7_bestTour 100 = .ok (.invokevirtual 356, 3) := dk_182 1 100 (dk_at dksX7_bestTour_4 8 rfl rfl)
theorem dX7_bestTour_103 : decode cX7_bestTour 103 = .ok (.lstore 9, 2) := dk_55 9 (dk_at dksX7_bestTour_4 11 rfl rfl)
theorem dX7_bestTour_105 : decode cX7_bestTour 105 = .ok (.lload 9, 2) := dk_22 9 (dk_at dksX7_bestTour_4 13 rfl rfl)
theorem dX7_bestTour_107 : decode cX7_bestTour 107 = .ok (.lload 5, 2) := dk_22 5 (dk_at dksX7_bestTour_4 15 rfl rfl)
theorem dX7_bestTour_109 : decode cX7_bestTour 109 = .ok (.lcmp, 1) := dk_148 (dk_at dksX7_bestTour_4 17 rfl rfl)
theorem dX7_bestTour_110 : decode cX7_bestTour 110 = .ok (.ifCond .gt 6, 3) := dk_157 0 6 (dk_at dksX7_bestTour_4 18 rfl rfl)
theorem dX7_bestTour_113 : decode cX7_bestTour 113 = .ok (.goto 17, 3) := dk_167 0 17 (dk_at dksX7_bestTour_4 21 rfl rfl)
theorem dX7_bestTour_116 : decode cX7_bestTour 116 = .ok (.lload 9, 2) := dk_22 9 (dk_at dksX7_bestTour_5 0 rfl rfl)
theorem dX7_bestTour_118 : decode cX7_bestTour 118 = .ok (.lstore 5, 2) := dk_55 5 (dk_at dksX7_bestTour_5 2 rfl rfl)
theorem dX7_bestTour_120 : decode cX7_bestTour 120 = .ok (.iload 7, 2) := dk_21 7 (dk_at dksX7_bestTour_5 4 rfl rfl)
theorem dX7_bestTour_122 : decode cX7_bestTour 122 = .ok (.istore 4, 2) := dk_54 4 (dk_at dksX7_bestTour_5 6 rfl rfl)
theorem dX7_bestTour_124 : decode cX7_bestTour 124 = .ok (.aload_n 0, 1) := dk_42 (dk_at dksX7_bestTour_5 8 rfl rfl)
theorem dX7_bestTour_125 : decode cX7_bestTour 125 = .ok (.iload 8, 2) := dk_21 8 (dk_at dksX7_bestTour_5 9 rfl rfl)
theorem dX7_bestTour_127 : decode cX7_bestTour 127 = .ok (.putfield 385, 3) := dk_181 1 129 (dk_at dksX7_bestTour_5 11 rfl rfl)
theorem dX7_bestTour_130 : decode cX7_bestTour 130 = .ok (.iinc 7 1, 3) := dk_132 7 1 (dk_at dksX7_bestTour_5 14 rfl rfl)
theorem dX7_bestTour_133 : decode cX7_bestTour 133 = .ok (.goto (-116), 3) := dk_167 255 140 (dk_at dksX7_bestTour_5 17 rfl rfl)
theorem dX7_bestTour_136 : decode cX7_bestTour 136 = .ok (.iload 4, 2) := dk_21 4 (dk_at dksX7_bestTour_5 20 rfl rfl)
theorem dX7_bestTour_138 : decode cX7_bestTour 138 = .ok (.ireturn, 1) := dk_172 (dk_at dksX7_bestTour_5 22 rfl rfl)
abbrev cX7_hoursBy : ByteArray := prog_14_method_81_code
def yX7_hoursBy : MethodName := ⟨RX7, "hoursBy", "(III)I"⟩
def dkwX7_hoursBy_8 : List UInt8 := [21, 5, 46, 79, 132, 5, 1, 167, 255, 232, 132, 4, 1, 167, 255, 95, 17, 39, 15, 172]
abbrev dktX7_hoursBy_8 : List UInt8 := dkwX7_hoursBy_8 ++ []
def dkwX7_hoursBy_7 : List UInt8 := [167, 255, 202, 3, 54, 5, 21, 5, 16, 64, 162, 0, 23, 42, 180, 0, 36, 21, 5, 42, 180, 0, 39]
abbrev dktX7_hoursBy_7 : List UInt8 := dkwX7_hoursBy_7 ++ dktX7_hoursBy_8
def dkwX7_hoursBy_6 : List UInt8 := [184, 0, 235, 153, 0, 11, 42, 21, 5, 21, 6, 182, 1, 122, 132, 6, 1, 167, 255, 218, 132, 5, 1]
abbrev dktX7_hoursBy_6 : List UInt8 := dkwX7_hoursBy_6 ++ dktX7_hoursBy_7
def dkwX7_hoursBy_5 : List UInt8 := [54, 6, 21, 6, 42, 180, 1, 24, 180, 0, 170, 162, 0, 32, 42, 180, 0, 36, 21, 5, 46, 21, 6]
abbrev dktX7_hoursBy_5 : List UInt8 := dkwX7_hoursBy_5 ++ dktX7_hoursBy_6
def dkwX7_hoursBy_4 : List UInt8 := [180, 0, 39, 21, 5, 3, 79, 132, 5, 1, 167, 255, 238, 3, 54, 5, 21, 5, 16, 64, 162, 0, 53, 3]
abbrev dktX7_hoursBy_4 : List UInt8 := dkwX7_hoursBy_4 ++ dktX7_hoursBy_5
def dkwX7_hoursBy_3 : List UInt8 := [154, 0, 6, 21, 4, 172, 132, 5, 1, 167, 255, 224, 3, 54, 5, 21, 5, 16, 64, 162, 0, 17, 42]
abbrev dktX7_hoursBy_3 : List UInt8 := dkwX7_hoursBy_3 ++ dktX7_hoursBy_4
def dkwX7_hoursBy_2 : List UInt8 := [21, 5, 16, 64, 162, 0, 31, 42, 180, 0, 36, 21, 5, 46, 153, 0, 15, 28, 21, 5, 2, 130, 126]
abbrev dktX7_hoursBy_2 : List UInt8 := dkwX7_hoursBy_2 ++ dktX7_hoursBy_3
def dkwX7_hoursBy_1 : List UInt8 := [42, 180, 0, 36, 4, 27, 120, 4, 27, 120, 79, 3, 54, 4, 21, 4, 29, 163, 0, 161, 3, 54, 5]
abbrev dktX7_hoursBy_1 : List UInt8 := dkwX7_hoursBy_1 ++ dktX7_hoursBy_2
def dkwX7_hoursBy_0 : List UInt8 := [3, 54, 4, 21, 4, 16, 64, 162, 0, 17, 42, 180, 0, 36, 21, 4, 3, 79, 132, 4, 1, 167, 255, 238]
abbrev dktX7_hoursBy_0 : List UInt8 := dkwX7_hoursBy_0 ++ dktX7_hoursBy_1
theorem dksX7_hoursBy_0 : cX7_hoursBy.data.toList.drop 0 = dktX7_hoursBy_0 := by decide +kernel
theorem dksX7_hoursBy_1 : cX7_hoursBy.data.toList.drop 24 = dktX7_hoursBy_1 := dk_seg dksX7_hoursBy_0 24 rfl rfl
theorem dksX7_hoursBy_2 : cX7_hoursBy.data.toList.drop 47 = dktX7_hoursBy_2 := dk_seg dksX7_hoursBy_1 23 rfl rfl
theorem dksX7_hoursBy_3 : cX7_hoursBy.data.toList.drop 70 = dktX7_hoursBy_3 := dk_seg dksX7_hoursBy_2 23 rfl rfl
theorem dksX7_hoursBy_4 : cX7_hoursBy.data.toList.drop 93 = dktX7_hoursBy_4 := dk_seg dksX7_hoursBy_3 23 rfl rfl
theorem dksX7_hoursBy_5 : cX7_hoursBy.data.toList.drop 117 = dktX7_hoursBy_5 := dk_seg dksX7_hoursBy_4 24 rfl rfl
theorem dksX7_hoursBy_6 : cX7_hoursBy.data.toList.drop 140 = dktX7_hoursBy_6 := dk_seg dksX7_hoursBy_5 23 rfl rfl
theorem dksX7_hoursBy_7 : cX7_hoursBy.data.toList.drop 163 = dktX7_hoursBy_7 := dk_seg dksX7_hoursBy_6 23 rfl rfl
theorem dksX7_hoursBy_8 : cX7_hoursBy.data.toList.drop 186 = dktX7_hoursBy_8 := dk_seg dksX7_hoursBy_7 23 rfl rfl
theorem dX7_hoursBy_0 : decode cX7_hoursBy 0 = .ok (.iconst 0, 1) := dk_3 (dk_at dksX7_hoursBy_0 0 rfl rfl)
theorem dX7_hoursBy_1 : decode cX7_hoursBy 1 = .ok (.istore 4, 2) := dk_54 4 (dk_at dksX7_hoursBy_0 1 rfl rfl)
theorem dX7_hoursBy_3 : decode cX7_hoursBy 3 = .ok (.iload 4, 2) := dk_21 4 (dk_at dksX7_hoursBy_0 3 rfl rfl)
theorem dX7_hoursBy_5 : decode cX7_hoursBy 5 = .ok (.bipush 64, 2) := dk_16 64 (dk_at dksX7_hoursBy_0 5 rfl rfl)
theorem dX7_hoursBy_7 : decode cX7_hoursBy 7 = .ok (.if_icmp .ge 17, 3) := dk_162 0 17 (dk_at dksX7_hoursBy_0 7 rfl rfl)
theorem dX7_hoursBy_10 : decode cX7_hoursBy 10 = .ok (.aload_n 0, 1) := dk_42 (dk_at dksX7_hoursBy_0 10 rfl rfl)
theorem dX7_hoursBy_11 : decode cX7_hoursBy 11 = .ok (.getfield 36, 3) := dk_180 0 36 (dk_at dksX7_hoursBy_0 11 rfl rfl)
theorem dX7_hoursBy_14 : decode cX7_hoursBy 14 = .ok (.iload 4, 2) := dk_21 4 (dk_at dksX7_hoursBy_0 14 rfl rfl)
theorem dX7_hoursBy_16 : decode cX7_hoursBy 16 = .ok (.iconst 0, 1) := dk_3 (dk_at dksX7_hoursBy_0 16 rfl rfl)
theorem dX7_hoursBy_17 : decode cX7_hoursBy 17 = .ok (.iastore, 1) := dk_79 (dk_at dksX7_hoursBy_0 17 rfl rfl)
theorem dX7_hoursBy_18 : decode cX7_hoursBy 18 = .ok (.iinc 4 1, 3) := dk_132 4 1 (dk_at dksX7_hoursBy_0 18 rfl rfl)
theorem dX7_hoursBy_21 : decode cX7_hoursBy 21 = .ok (.goto (-18), 3) := dk_167 255 238 (dk_at dksX7_hoursBy_0 21 rfl rfl)
theorem dX7_hoursBy_24 : decode cX7_hoursBy 24 = .ok (.aload_n 0, 1) := dk_42 (dk_at dksX7_hoursBy_1 0 rfl rfl)
theorem dX7_hoursBy_25 : decode cX7_hoursBy 25 = .ok (.getfield 36, 3) := dk_180 0 36 (dk_at dksX7_hoursBy_1 1 rfl rfl)
theorem dX7_hoursBy_28 : decode cX7_hoursBy 28 = .ok (.iconst 1, 1) := dk_4 (dk_at dksX7_hoursBy_1 4 rfl rfl)
theorem dX7_hoursBy_29 : decode cX7_hoursBy 29 = .ok (.iload_n 1, 1) := dk_27 (dk_at dksX7_hoursBy_1 5 rfl rfl)
theorem dX7_hoursBy_30 : decode cX7_hoursBy 30 = .ok (.ishl, 1) := dk_120 (dk_at dksX7_hoursBy_1 6 rfl rfl)
theorem dX7_hoursBy_31 : decode cX7_hoursBy 31 = .ok (.iconst 1, 1) := dk_4 (dk_at dksX7_hoursBy_1 7 rfl rfl)
theorem dX7_hoursBy_32 : decode cX7_hoursBy 32 = .ok (.iload_n 1, 1) := dk_27 (dk_at dksX7_hoursBy_1 8 rfl rfl)
theorem dX7_hoursBy_33 : decode cX7_hoursBy 33 = .ok (.ishl, 1) := dk_120 (dk_at dksX7_hoursBy_1 9 rfl rfl)
theorem dX7_hoursBy_34 : decode cX7_hoursBy 34 = .ok (.iastore, 1) := dk_79 (dk_at dksX7_hoursBy_1 10 rfl rfl)
theorem dX7_hoursBy_35 : decode cX7_hoursBy 35 = .ok (.iconst 0, 1) := dk_3 (dk_at dksX7_hoursBy_1 11 rfl rfl)
theorem dX7_hoursBy_36 : decode cX7_hoursBy 36 = .ok (.istore 4, 2) := dk_54 4 (dk_at dksX7_hoursBy_1 12 rfl rfl)
theorem dX7_hoursBy_38 : decode cX7_hoursBy 38 = .ok (.iload 4, 2) := dk_21 4 (dk_at dksX7_hoursBy_1 14 rfl rfl)
theorem dX7_hoursBy_40 : decode cX7_hoursBy 40 = .ok (.iload_n 3, 1) := dk_29 (dk_at dksX7_hoursBy_1 16 rfl rfl)
theorem dX7_hoursBy_41 : decode cX7_hoursBy 41 = .ok (.if_icmp .gt 161, 3) := dk_163 0 161 (dk_at dksX7_hoursBy_1 17 rfl rfl)
theorem dX7_hoursBy_44 : decode cX7_hoursBy 44 = .ok (.iconst 0, 1) := dk_3 (dk_at dksX7_hoursBy_1 20 rfl rfl)
theorem dX7_hoursBy_45 : decode cX7_hoursBy 45 = .ok (.istore 5, 2) := dk_54 5 (dk_at dksX7_hoursBy_1 21 rfl rfl)
theorem dX7_hoursBy_47 : decode cX7_hoursBy 47 = .ok (.iload 5, 2) := dk_21 5 (dk_at dksX7_hoursBy_2 0 rfl rfl)
theorem dX7_hoursBy_49 : decode cX7_hoursBy 49 = .ok (.bipush 64, 2) := dk_16 64 (dk_at dksX7_hoursBy_2 2 rfl rfl)
theorem dX7_hoursBy_51 : decode cX7_hoursBy 51 = .ok (.if_icmp .ge 31, 3) := dk_162 0 31 (dk_at dksX7_hoursBy_2 4 rfl rfl)
theorem dX7_hoursBy_54 : decode cX7_hoursBy 54 = .ok (.aload_n 0, 1) := dk_42 (dk_at dksX7_hoursBy_2 7 rfl rfl)
theorem dX7_hoursBy_55 : decode cX7_hoursBy 55 = .ok (.getfield 36, 3) := dk_180 0 36 (dk_at dksX7_hoursBy_2 8 rfl rfl)
theorem dX7_hoursBy_58 : decode cX7_hoursBy 58 = .ok (.iload 5, 2) := dk_21 5 (dk_at dksX7_hoursBy_2 11 rfl rfl)
theorem dX7_hoursBy_60 : decode cX7_hoursBy 60 = .ok (.iaload, 1) := dk_46 (dk_at dksX7_hoursBy_2 13 rfl rfl)
theorem dX7_hoursBy_61 : decode cX7_hoursBy 61 = .ok (.ifCond .eq 15, 3) := dk_153 0 15 (dk_at dksX7_hoursBy_2 14 rfl rfl)
theorem dX7_hoursBy_64 : decode cX7_hoursBy 64 = .ok (.iload_n 2, 1) := dk_28 (dk_at dksX7_hoursBy_2 17 rfl rfl)
theorem dX7_hoursBy_65 : decode cX7_hoursBy 65 = .ok (.iload 5, 2) := dk_21 5 (dk_at dksX7_hoursBy_2 18 rfl rfl)
theorem dX7_hoursBy_67 : decode cX7_hoursBy 67 = .ok (.iconst (-1), 1) := dk_2 (dk_at dksX7_hoursBy_2 20 rfl rfl)
theorem dX7_hoursBy_68 : decode cX7_hoursBy 68 = .ok (.ixor, 1) := dk_130 (dk_at dksX7_hoursBy_2 21 rfl rfl)
theorem dX7_hoursBy_69 : decode cX7_hoursBy 69 = .ok (.iand, 1) := dk_126 (dk_at dksX7_hoursBy_2 22 rfl rfl)
theorem dX7_hoursBy_70 : decode cX7_hoursBy 70 = .ok (.ifCond .ne 6, 3) := dk_154 0 6 (dk_at dksX7_hoursBy_3 0 rfl rfl)
theorem dX7_hoursBy_73 : decode cX7_hoursBy 73 = .ok (.iload 4, 2) := dk_21 4 (dk_at dksX7_hoursBy_3 3 rfl rfl)
theorem dX7_hoursBy_75 : decode cX7_hoursBy 75 = .ok (.ireturn, 1) := dk_172 (dk_at dksX7_hoursBy_3 5 rfl rfl)
theorem dX7_hoursBy_76 : decode cX7_hoursBy 76 = .ok (.iinc 5 1, 3) := dk_132 5 1 (dk_at dksX7_hoursBy_3 6 rfl rfl)
theorem dX7_hoursBy_79 : decode cX7_hoursBy 79 = .ok (.goto (-32), 3) := dk_167 255 224 (dk_at dksX7_hoursBy_3 9 rfl rfl)
theorem dX7_hoursBy_82 : decode cX7_hoursBy 82 = .ok (.iconst 0, 1) := dk_3 (dk_at dksX7_hoursBy_3 12 rfl rfl)
theorem dX7_hoursBy_83 : decode cX7_hoursBy 83 = .ok (.istore 5, 2) := dk_54 5 (dk_at dksX7_hoursBy_3 13 rfl rfl)
theorem dX7_hoursBy_85 : decode cX7_hoursBy 85 = .ok (.iload 5, 2) := dk_21 5 (dk_at dksX7_hoursBy_3 15 rfl rfl)
theorem dX7_hoursBy_87 : decode cX7_hoursBy 87 = .ok (.bipush 64, 2) := dk_16 64 (dk_at dksX7_hoursBy_3 17 rfl rfl)
theorem dX7_hoursBy_89 : decode cX7_hoursBy 89 = .ok (.if_icmp .ge 17, 3) := dk_162 0 17 (dk_at dksX7_hoursBy_3 19 rfl rfl)
theorem dX7_hoursBy_92 : decode cX7_hoursBy 92 = .ok (.aload_n 0, 1) := dk_42 (dk_at dksX7_hoursBy_3 22 rfl rfl)
theorem dX7_hoursBy_93 : decode cX7_hoursBy 93 = .ok (.getfield 39, 3) := dk_180 0 39 (dk_at dksX7_hoursBy_4 0 rfl rfl)
theorem dX7_hoursBy_96 : decode cX7_hoursBy 96 = .ok (.iload 5, 2) := dk_21 5 (dk_at dksX7_hoursBy_4 3 rfl rfl)
theorem dX7_hoursBy_98 : decode cX7_hoursBy 98 = .ok (.iconst 0, 1) := dk_3 (dk_at dksX7_hoursBy_4 5 rfl rfl)
theorem dX7_hoursBy_99 : decode cX7_hoursBy 99 = .ok (.iastore, 1) := dk_79 (dk_at dksX7_hoursBy_4 6 rfl rfl)
theorem dX7_hoursBy_100 : decode cX7_hoursBy 100 = .ok (.iinc 5 1, 3) := dk_132 5 1 (dk_at dksX7_hoursBy_4 7 rfl rfl)
theorem dX7_hoursBy_103 : decode cX7_hoursBy 103 = .ok (.goto (-18), 3) := dk_167 255 238 (dk_at dksX7_hoursBy_4 10 rfl rfl)
theorem dX7_hoursBy_106 : decode cX7_hoursBy 106 = .ok (.iconst 0, 1) := dk_3 (dk_at dksX7_hoursBy_4 13 rfl rfl)
theorem dX7_hoursBy_107 : decode cX7_hoursBy 107 = .ok (.istore 5, 2) := dk_54 5 (dk_at dksX7_hoursBy_4 14 rfl rfl)
theorem dX7_hoursBy_109 : decode cX7_hoursBy 109 = .ok (.iload 5, 2) := dk_21 5 (dk_at dksX7_hoursBy_4 16 rfl rfl)
theorem dX7_hoursBy_111 : decode cX7_hoursBy 111 = .ok (.bipush 64, 2) := dk_16 64 (dk_at dksX7_hoursBy_4 18 rfl rfl)
theorem dX7_hoursBy_113 : decode cX7_hoursBy 113 = .ok (.if_icmp .ge 53, 3) := dk_162 0 53 (dk_at dksX7_hoursBy_4 20 rfl rfl)
theorem dX7_hoursBy_116 : decode cX7_hoursBy 116 = .ok (.iconst 0, 1) := dk_3 (dk_at dksX7_hoursBy_4 23 rfl rfl)
theorem dX7_hoursBy_117 : decode cX7_hoursBy 117 = .ok (.istore 6, 2) := dk_54 6 (dk_at dksX7_hoursBy_5 0 rfl rfl)
theorem dX7_hoursBy_119 : decode cX7_hoursBy 119 = .ok (.iload 6, 2) := dk_21 6 (dk_at dksX7_hoursBy_5 2 rfl rfl)
theorem dX7_hoursBy_121 : decode cX7_hoursBy 121 = .ok (.aload_n 0, 1) := dk_42 (dk_at dksX7_hoursBy_5 4 rfl rfl)
theorem dX7_hoursBy_122 : decode cX7_hoursBy 122 = .ok (.getfield 280, 3) := dk_180 1 24 (dk_at dksX7_hoursBy_5 5 rfl rfl)
theorem dX7_hoursBy_125 : decode cX7_hoursBy 125 = .ok (.getfield 170, 3) := dk_180 0 170 (dk_at dksX7_hoursBy_5 8 rfl rfl)
theorem dX7_hoursBy_128 : decode cX7_hoursBy 128 = .ok (.if_icmp .ge 32, 3) := dk_162 0 32 (dk_at dksX7_hoursBy_5 11 rfl rfl)
theorem dX7_hoursBy_131 : decode cX7_hoursBy 131 = .ok (.aload_n 0, 1) := dk_42 (dk_at dksX7_hoursBy_5 14 rfl rfl)
theorem dX7_hoursBy_132 : decode cX7_hoursBy 132 = .ok (.getfield 36, 3) := dk_180 0 36 (dk_at dksX7_hoursBy_5 15 rfl rfl)
theorem dX7_hoursBy_135 : decode cX7_hoursBy 135 = .ok (.iload 5, 2) := dk_21 5 (dk_at dksX7_hoursBy_5 18 rfl rfl)
theorem dX7_hoursBy_137 : decode cX7_hoursBy 137 = .ok (.iaload, 1) := dk_46 (dk_at dksX7_hoursBy_5 20 rfl rfl)
theorem dX7_hoursBy_138 : decode cX7_hoursBy 138 = .ok (.iload 6, 2) := dk_21 6 (dk_at dksX7_hoursBy_5 21 rfl rfl)
theorem dX7_hoursBy_140 : decode cX7_hoursBy 140 = .ok (.invokestatic 235, 3) := dk_184 0 235 (dk_at dksX7_hoursBy_6 0 rfl rfl)
theorem dX7_hoursBy_143 : decode cX7_hoursBy 143 = .ok (.ifCond .eq 11, 3) := dk_153 0 11 (dk_at dksX7_hoursBy_6 3 rfl rfl)
theorem dX7_hoursBy_146 : decode cX7_hoursBy 146 = .ok (.aload_n 0, 1) := dk_42 (dk_at dksX7_hoursBy_6 6 rfl rfl)
theorem dX7_hoursBy_147 : decode cX7_hoursBy 147 = .ok (.iload 5, 2) := dk_21 5 (dk_at dksX7_hoursBy_6 7 rfl rfl)
theorem dX7_hoursBy_149 : decode cX7_hoursBy 149 = .ok (.iload 6, 2) := dk_21 6 (dk_at dksX7_hoursBy_6 9 rfl rfl)
theorem dX7_hoursBy_151 : decode cX7_hoursBy 151 = .ok (.invokevirtual 378, 3) := dk_182 1 122 (dk_at dksX7_hoursBy_6 11 rfl rfl)
theorem dX7_hoursBy_154 : decode cX7_hoursBy 154 = .ok (.iinc 6 1, 3) := dk_132 6 1 (dk_at dksX7_hoursBy_6 14 rfl rfl)
theorem dX7_hoursBy_157 : decode cX7_hoursBy 157 = .ok (.goto (-38), 3) := dk_167 255 218 (dk_at dksX7_hoursBy_6 17 rfl rfl)
theorem dX7_hoursBy_160 : decode cX7_hoursBy 160 = .ok (.iinc 5 1, 3) := dk_132 5 1 (dk_at dksX7_hoursBy_6 20 rfl rfl)
theorem dX7_hoursBy_163 : decode cX7_hoursBy 163 = .ok (.goto (-54), 3) := dk_167 255 202 (dk_at dksX7_hoursBy_7 0 rfl rfl)
theorem dX7_hoursBy_166 : decode cX7_hoursBy 166 = .ok (.iconst 0, 1) := dk_3 (dk_at dksX7_hoursBy_7 3 rfl rfl)
theorem dX7_hoursBy_167 : decode cX7_hoursBy 167 = .ok (.istore 5, 2) := dk_54 5 (dk_at dksX7_hoursBy_7 4 rfl rfl)
theorem dX7_hoursBy_169 : decode cX7_hoursBy 169 = .ok (.iload 5, 2) := dk_21 5 (dk_at dksX7_hoursBy_7 6 rfl rfl)
theorem dX7_hoursBy_171 : decode cX7_hoursBy 171 = .ok (.bipush 64, 2) := dk_16 64 (dk_at dksX7_hoursBy_7 8 rfl rfl)
theorem dX7_hoursBy_173 : decode cX7_hoursBy 173 = .ok (.if_icmp .ge 23, 3) := dk_162 0 23 (dk_at dksX7_hoursBy_7 10 rfl rfl)
theorem dX7_hoursBy_176 : decode cX7_hoursBy 176 = .ok (.aload_n 0, 1) := dk_42 (dk_at dksX7_hoursBy_7 13 rfl rfl)
theorem dX7_hoursBy_177 : decode cX7_hoursBy 177 = .ok (.getfield 36, 3) := dk_180 0 36 (dk_at dksX7_hoursBy_7 14 rfl rfl)
theorem dX7_hoursBy_180 : decode cX7_hoursBy 180 = .ok (.iload 5, 2) := dk_21 5 (dk_at dksX7_hoursBy_7 17 rfl rfl)
theorem dX7_hoursBy_182 : decode cX7_hoursBy 182 = .ok (.aload_n 0, 1) := dk_42 (dk_at dksX7_hoursBy_7 19 rfl rfl)
theorem dX7_hoursBy_183 : decode cX7_hoursBy 183 = .ok (.getfield 39, 3) := dk_180 0 39 (dk_at dksX7_hoursBy_7 20 rfl rfl)
theorem dX7_hoursBy_186 : decode cX7_hoursBy 186 = .ok (.iload 5, 2) := dk_21 5 (dk_at dksX7_hoursBy_8 0 rfl rfl)
theorem dX7_hoursBy_188 : decode cX7_hoursBy 188 = .ok (.iaload, 1) := dk_46 (dk_at dksX7_hoursBy_8 2 rfl rfl)
theorem dX7_hoursBy_189 : decode cX7_hoursBy 189 = .ok (.iastore, 1) := dk_79 (dk_at dksX7_hoursBy_8 3 rfl rfl)
theorem dX7_hoursBy_190 : decode cX7_hoursBy 190 = .ok (.iinc 5 1, 3) := dk_132 5 1 (dk_at dksX7_hoursBy_8 4 rfl rfl)
theorem dX7_hoursBy_193 : decode cX7_hoursBy 193 = .ok (.goto (-24), 3) := dk_167 255 232 (dk_at dksX7_hoursBy_8 7 rfl rfl)
theorem dX7_hoursBy_196 : decode cX7_hoursBy 196 = .ok (.iinc 4 1, 3) := dk_132 4 1 (dk_at dksX7_hoursBy_8 10 rfl rfl)
theorem dX7_hoursBy_199 : decode cX7_hoursBy 199 = .ok (.goto (-161), 3) := dk_167 255 95 (dk_at dksX7_hoursBy_8 13 rfl rfl)
theorem dX7_hoursBy_202 : decode cX7_hoursBy 202 = .ok (.sipush 9999, 3) := dk_17 39 15 (dk_at dksX7_hoursBy_8 16 rfl rfl)
theorem dX7_hoursBy_205 : decode cX7_hoursBy 205 = .ok (.ireturn, 1) := dk_172 (dk_at dksX7_hoursBy_8 19 rfl rfl)
abbrev cX7_spreads : ByteArray := prog_14_method_82_code
def yX7_spreads : MethodName := ⟨RX7, "spreads", "(II)V"⟩
def dkwX7_spreads_2 : List UInt8 := [167, 255, 214, 177]
abbrev dktX7_spreads_2 : List UInt8 := dkwX7_spreads_2 ++ []
def dkwX7_spreads_1 : List UInt8 := [153, 0, 19, 42, 180, 0, 39, 27, 4, 29, 120, 128, 92, 46, 4, 29, 120, 128, 79, 132, 3, 1]
abbrev dktX7_spreads_1 : List UInt8 := dkwX7_spreads_1 ++ dktX7_spreads_2
def dkwX7_spreads_0 : List UInt8 := [3, 62, 29, 42, 180, 1, 24, 180, 0, 170, 162, 0, 37, 42, 28, 182, 1, 65, 29, 184, 0, 235]
abbrev dktX7_spreads_0 : List UInt8 := dkwX7_spreads_0 ++ dktX7_spreads_1
theorem dksX7_spreads_0 : cX7_spreads.data.toList.drop 0 = dktX7_spreads_0 := by decide +kernel
theorem dksX7_spreads_1 : cX7_spreads.data.toList.drop 22 = dktX7_spreads_1 := dk_seg dksX7_spreads_0 22 rfl rfl
theorem dksX7_spreads_2 : cX7_spreads.data.toList.drop 44 = dktX7_spreads_2 := dk_seg dksX7_spreads_1 22 rfl rfl
theorem dX7_spreads_0 : decode cX7_spreads 0 = .ok (.iconst 0, 1) := dk_3 (dk_at dksX7_spreads_0 0 rfl rfl)
theorem dX7_spreads_1 : decode cX7_spreads 1 = .ok (.istore_n 3, 1) := dk_62 (dk_at dksX7_spreads_0 1 rfl rfl)
theorem dX7_spreads_2 : decode cX7_spreads 2 = .ok (.iload_n 3, 1) := dk_29 (dk_at dksX7_spreads_0 2 rfl rfl)
theorem dX7_spreads_3 : decode cX7_spreads 3 = .ok (.aload_n 0, 1) := dk_42 (dk_at dksX7_spreads_0 3 rfl rfl)
theorem dX7_spreads_4 : decode cX7_spreads 4 = .ok (.getfield 280, 3) := dk_180 1 24 (dk_at dksX7_spreads_0 4 rfl rfl)
theorem dX7_spreads_7 : decode cX7_spreads 7 = .ok (.getfield 170, 3) := dk_180 0 170 (dk_at dksX7_spreads_0 7 rfl rfl)
theorem dX7_spreads_10 : decode cX7_spreads 10 = .ok (.if_icmp .ge 37, 3) := dk_162 0 37 (dk_at dksX7_spreads_0 10 rfl rfl)
theorem dX7_spreads_13 : decode cX7_spreads 13 = .ok (.aload_n 0, 1) := dk_42 (dk_at dksX7_spreads_0 13 rfl rfl)
theorem dX7_spreads_14 : decode cX7_spreads 14 = .ok (.iload_n 2, 1) := dk_28 (dk_at dksX7_spreads_0 14 rfl rfl)
theorem dX7_spreads_15 : decode cX7_spreads 15 = .ok (.invokevirtual 321, 3) := dk_182 1 65 (dk_at dksX7_spreads_0 15 rfl rfl)
theorem dX7_spreads_18 : decode cX7_spreads 18 = .ok (.iload_n 3, 1) := dk_29 (dk_at dksX7_spreads_0 18 rfl rfl)
theorem dX7_spreads_19 : decode cX7_spreads 19 = .ok (.invokestatic 235, 3) := dk_184 0 235 (dk_at dksX7_spreads_0 19 rfl rfl)
theorem dX7_spreads_22 : decode cX7_spreads 22 = .ok (.ifCond .eq 19, 3) := dk_153 0 19 (dk_at dksX7_spreads_1 0 rfl rfl)
theorem dX7_spreads_25 : decode cX7_spreads 25 = .ok (.aload_n 0, 1) := dk_42 (dk_at dksX7_spreads_1 3 rfl rfl)
theorem dX7_spreads_26 : decode cX7_spreads 26 = .ok (.getfield 39, 3) := dk_180 0 39 (dk_at dksX7_spreads_1 4 rfl rfl)
theorem dX7_spreads_29 : decode cX7_spreads 29 = .ok (.iload_n 1, 1) := dk_27 (dk_at dksX7_spreads_1 7 rfl rfl)
theorem dX7_spreads_30 : decode cX7_spreads 30 = .ok (.iconst 1, 1) := dk_4 (dk_at dksX7_spreads_1 8 rfl rfl)
theorem dX7_spreads_31 : decode cX7_spreads 31 = .ok (.iload_n 3, 1) := dk_29 (dk_at dksX7_spreads_1 9 rfl rfl)
theorem dX7_spreads_32 : decode cX7_spreads 32 = .ok (.ishl, 1) := dk_120 (dk_at dksX7_spreads_1 10 rfl rfl)
theorem dX7_spreads_33 : decode cX7_spreads 33 = .ok (.ior, 1) := dk_128 (dk_at dksX7_spreads_1 11 rfl rfl)
theorem dX7_spreads_34 : decode cX7_spreads 34 = .ok (.dup2, 1) := dk_92 (dk_at dksX7_spreads_1 12 rfl rfl)
theorem dX7_spreads_35 : decode cX7_spreads 35 = .ok (.iaload, 1) := dk_46 (dk_at dksX7_spreads_1 13 rfl rfl)
theorem dX7_spreads_36 : decode cX7_spreads 36 = .ok (.iconst 1, 1) := dk_4 (dk_at dksX7_spreads_1 14 rfl rfl)
theorem dX7_spreads_37 : decode cX7_spreads 37 = .ok (.iload_n 3, 1) := dk_29 (dk_at dksX7_spreads_1 15 rfl rfl)
theorem dX7_spreads_38 : decode cX7_spreads 38 = .ok (.ishl, 1) := dk_120 (dk_at dksX7_spreads_1 16 rfl rfl)
theorem dX7_spreads_39 : decode cX7_spreads 39 = .ok (.ior, 1) := dk_128 (dk_at dksX7_spreads_1 17 rfl rfl)
theorem dX7_spreads_40 : decode cX7_spreads 40 = .ok (.iastore, 1) := dk_79 (dk_at dksX7_spreads_1 18 rfl rfl)
theorem dX7_spreads_41 : decode cX7_spreads 41 = .ok (.iinc 3 1, 3) := dk_132 3 1 (dk_at dksX7_spreads_1 19 rfl rfl)
theorem dX7_spreads_44 : decode cX7_spreads 44 = .ok (.goto (-42), 3) := dk_167 255 214 (dk_at dksX7_spreads_2 0 rfl rfl)
theorem dX7_spreads_47 : decode cX7_spreads 47 = .ok (.return_, 1) := dk_177 (dk_at dksX7_spreads_2 3 rfl rfl)
abbrev cX7_tourHours : ByteArray := prog_14_method_85_code
def yX7_tourHours : MethodName := ⟨RX7, "tourHours", "(II)I"⟩
def dkwX7_tourHours_1 : List UInt8 := [172, 42, 27, 28, 182, 1, 132, 87, 42, 42, 180, 1, 129, 182, 0, 61, 172]
abbrev dktX7_tourHours_1 : List UInt8 := dkwX7_tourHours_1 ++ []
def dkwX7_tourHours_0 : List UInt8 := [42, 3, 181, 0, 51, 42, 27, 28, 3, 16, 12, 182, 1, 115, 62, 29, 158, 0, 9, 42, 29, 182, 0, 57]
abbrev dktX7_tourHours_0 : List UInt8 := dkwX7_tourHours_0 ++ dktX7_tourHours_1
theorem dksX7_tourHours_0 : cX7_tourHours.data.toList.drop 0 = dktX7_tourHours_0 := by decide +kernel
theorem dksX7_tourHours_1 : cX7_tourHours.data.toList.drop 24 = dktX7_tourHours_1 := dk_seg dksX7_tourHours_0 24 rfl rfl
theorem dX7_tourHours_0 : decode cX7_tourHours 0 = .ok (.aload_n 0, 1) := dk_42 (dk_at dksX7_tourHours_0 0 rfl rfl)
theorem dX7_tourHours_1 : decode cX7_tourHours 1 = .ok (.iconst 0, 1) := dk_3 (dk_at dksX7_tourHours_0 1 rfl rfl)
theorem dX7_tourHours_2 : decode cX7_tourHours 2 = .ok (.putfield 51, 3) := dk_181 0 51 (dk_at dksX7_tourHours_0 2 rfl rfl)
theorem dX7_tourHours_5 : decode cX7_tourHours 5 = .ok (.aload_n 0, 1) := dk_42 (dk_at dksX7_tourHours_0 5 rfl rfl)
theorem dX7_tourHours_6 : decode cX7_tourHours 6 = .ok (.iload_n 1, 1) := dk_27 (dk_at dksX7_tourHours_0 6 rfl rfl)
theorem dX7_tourHours_7 : decode cX7_tourHours 7 = .ok (.iload_n 2, 1) := dk_28 (dk_at dksX7_tourHours_0 7 rfl rfl)
theorem dX7_tourHours_8 : decode cX7_tourHours 8 = .ok (.iconst 0, 1) := dk_3 (dk_at dksX7_tourHours_0 8 rfl rfl)
theorem dX7_tourHours_9 : decode cX7_tourHours 9 = .ok (.bipush 12, 2) := dk_16 12 (dk_at dksX7_tourHours_0 9 rfl rfl)
theorem dX7_tourHours_11 : decode cX7_tourHours 11 = .ok (.invokevirtual 371, 3) := dk_182 1 115 (dk_at dksX7_tourHours_0 11 rfl rfl)
theorem dX7_tourHours_14 : decode cX7_tourHours 14 = .ok (.istore_n 3, 1) := dk_62 (dk_at dksX7_tourHours_0 14 rfl rfl)
theorem dX7_tourHours_15 : decode cX7_tourHours 15 = .ok (.iload_n 3, 1) := dk_29 (dk_at dksX7_tourHours_0 15 rfl rfl)
theorem dX7_tourHours_16 : decode cX7_tourHours 16 = .ok (.ifCond .le 9, 3) := dk_158 0 9 (dk_at dksX7_tourHours_0 16 rfl rfl)
theorem dX7_tourHours_19 : decode cX7_tourHours 19 = .ok (.aload_n 0, 1) := dk_42 (dk_at dksX7_tourHours_0 19 rfl rfl)
theorem dX7_tourHours_20 : decode cX7_tourHours 20 = .ok (.iload_n 3, 1) := dk_29 (dk_at dksX7_tourHours_0 20 rfl rfl)
theorem dX7_tourHours_21 : decode cX7_tourHours 21 = .ok (.invokevirtual 57, 3) := dk_182 0 57 (dk_at dksX7_tourHours_0 21 rfl rfl)
theorem dX7_tourHours_24 : decode cX7_tourHours 24 = .ok (.ireturn, 1) := dk_172 (dk_at dksX7_tourHours_1 0 rfl rfl)
theorem dX7_tourHours_25 : decode cX7_tourHours 25 = .ok (.aload_n 0, 1) := dk_42 (dk_at dksX7_tourHours_1 1 rfl rfl)
theorem dX7_tourHours_26 : decode cX7_tourHours 26 = .ok (.iload_n 1, 1) := dk_27 (dk_at dksX7_tourHours_1 2 rfl rfl)
theorem dX7_tourHours_27 : decode cX7_tourHours 27 = .ok (.iload_n 2, 1) := dk_28 (dk_at dksX7_tourHours_1 3 rfl rfl)
theorem dX7_tourHours_28 : decode cX7_tourHours 28 = .ok (.invokevirtual 388, 3) := dk_182 1 132 (dk_at dksX7_tourHours_1 4 rfl rfl)
theorem dX7_tourHours_31 : decode cX7_tourHours 31 = .ok (.pop, 1) := dk_87 (dk_at dksX7_tourHours_1 7 rfl rfl)
theorem dX7_tourHours_32 : decode cX7_tourHours 32 = .ok (.aload_n 0, 1) := dk_42 (dk_at dksX7_tourHours_1 8 rfl rfl)
theorem dX7_tourHours_33 : decode cX7_tourHours 33 = .ok (.aload_n 0, 1) := dk_42 (dk_at dksX7_tourHours_1 9 rfl rfl)
theorem dX7_tourHours_34 : decode cX7_tourHours 34 = .ok (.getfield 385, 3) := dk_180 1 129 (dk_at dksX7_tourHours_1 10 rfl rfl)
theorem dX7_tourHours_37 : decode cX7_tourHours 37 = .ok (.invokevirtual 61, 3) := dk_182 0 61 (dk_at dksX7_tourHours_1 13 rfl rfl)
theorem dX7_tourHours_40 : decode cX7_tourHours 40 = .ok (.ireturn, 1) := dk_172 (dk_at dksX7_tourHours_1 16 rfl rfl)
abbrev cX7_apart : ByteArray := prog_14_method_86_code
def yX7_apart : MethodName := ⟨RX7, "apart", "(II)I"⟩
def dkwX7_apart_2 : List UInt8 := [16, 254, 167, 0, 4, 29, 182, 0, 61, 172]
abbrev dktX7_apart_2 : List UInt8 := dkwX7_apart_2 ++ []
def dkwX7_apart_1 : List UInt8 := [182, 0, 57, 172, 42, 27, 4, 28, 120, 16, 6, 182, 1, 125, 62, 42, 29, 17, 39, 15, 160, 0, 8]
abbrev dktX7_apart_1 : List UInt8 := dkwX7_apart_1 ++ dktX7_apart_2
def dkwX7_apart_0 : List UInt8 := [42, 3, 181, 0, 51, 42, 27, 182, 1, 35, 153, 0, 11, 42, 28, 182, 1, 35, 154, 0, 9, 42, 4]
abbrev dktX7_apart_0 : List UInt8 := dkwX7_apart_0 ++ dktX7_apart_1
theorem dksX7_apart_0 : cX7_apart.data.toList.drop 0 = dktX7_apart_0 := by decide +kernel
theorem dksX7_apart_1 : cX7_apart.data.toList.drop 23 = dktX7_apart_1 := dk_seg dksX7_apart_0 23 rfl rfl
theorem dksX7_apart_2 : cX7_apart.data.toList.drop 46 = dktX7_apart_2 := dk_seg dksX7_apart_1 23 rfl rfl
theorem dX7_apart_0 : decode cX7_apart 0 = .ok (.aload_n 0, 1) := dk_42 (dk_at dksX7_apart_0 0 rfl rfl)
theorem dX7_apart_1 : decode cX7_apart 1 = .ok (.iconst 0, 1) := dk_3 (dk_at dksX7_apart_0 1 rfl rfl)
theorem dX7_apart_2 : decode cX7_apart 2 = .ok (.putfield 51, 3) := dk_181 0 51 (dk_at dksX7_apart_0 2 rfl rfl)
theorem dX7_apart_5 : decode cX7_apart 5 = .ok (.aload_n 0, 1) := dk_42 (dk_at dksX7_apart_0 5 rfl rfl)
theorem dX7_apart_6 : decode cX7_apart 6 = .ok (.iload_n 1, 1) := dk_27 (dk_at dksX7_apart_0 6 rfl rfl)
theorem dX7_apart_7 : decode cX7_apart 7 = .ok (.invokevirtual 291, 3) := dk_182 1 35 (dk_at dksX7_apart_0 7 rfl rfl)
theorem dX7_apart_10 : decode cX7_apart 10 = .ok (.ifCond .eq 11, 3) := dk_153 0 11 (dk_at dksX7_apart_0 10 rfl rfl)
theorem dX7_apart_13 : decode cX7_apart 13 = .ok (.aload_n 0, 1) := dk_42 (dk_at dksX7_apart_0 13 rfl rfl)
theorem dX7_apart_14 : decode cX7_apart 14 = .ok (.iload_n 2, 1) := dk_28 (dk_at dksX7_apart_0 14 rfl rfl)
theorem dX7_apart_15 : decode cX7_apart 15 = .ok (.invokevirtual 291, 3) := dk_182 1 35 (dk_at dksX7_apart_0 15 rfl rfl)
theorem dX7_apart_18 : decode cX7_apart 18 = .ok (.ifCond .ne 9, 3) := dk_154 0 9 (dk_at dksX7_apart_0 18 rfl rfl)
theorem dX7_apart_21 : decode cX7_apart 21 = .ok (.aload_n 0, 1) := dk_42 (dk_at dksX7_apart_0 21 rfl rfl)
theorem dX7_apart_22 : decode cX7_apart 22 = .ok (.iconst 1, 1) := dk_4 (dk_at dksX7_apart_0 22 rfl rfl)
theorem dX7_apart_23 : decode cX7_apart 23 = .ok (.invokevirtual 57, 3) := dk_182 0 57 (dk_at dksX7_apart_1 0 rfl rfl)
theorem dX7_apart_26 : decode cX7_apart 26 = .ok (.ireturn, 1) := dk_172 (dk_at dksX7_apart_1 3 rfl rfl)
theorem dX7_apart_27 : decode cX7_apart 27 = .ok (.aload_n 0, 1) := dk_42 (dk_at dksX7_apart_1 4 rfl rfl)
theorem dX7_apart_28 : decode cX7_apart 28 = .ok (.iload_n 1, 1) := dk_27 (dk_at dksX7_apart_1 5 rfl rfl)
theorem dX7_apart_29 : decode cX7_apart 29 = .ok (.iconst 1, 1) := dk_4 (dk_at dksX7_apart_1 6 rfl rfl)
theorem dX7_apart_30 : decode cX7_apart 30 = .ok (.iload_n 2, 1) := dk_28 (dk_at dksX7_apart_1 7 rfl rfl)
theorem dX7_apart_31 : decode cX7_apart 31 = .ok (.ishl, 1) := dk_120 (dk_at dksX7_apart_1 8 rfl rfl)
theorem dX7_apart_32 : decode cX7_apart 32 = .ok (.bipush 6, 2) := dk_16 6 (dk_at dksX7_apart_1 9 rfl rfl)
theorem dX7_apart_34 : decode cX7_apart 34 = .ok (.invokevirtual 381, 3) := dk_182 1 125 (dk_at dksX7_apart_1 11 rfl rfl)
theorem dX7_apart_37 : decode cX7_apart 37 = .ok (.istore_n 3, 1) := dk_62 (dk_at dksX7_apart_1 14 rfl rfl)
theorem dX7_apart_38 : decode cX7_apart 38 = .ok (.aload_n 0, 1) := dk_42 (dk_at dksX7_apart_1 15 rfl rfl)
theorem dX7_apart_39 : decode cX7_apart 39 = .ok (.iload_n 3, 1) := dk_29 (dk_at dksX7_apart_1 16 rfl rfl)
theorem dX7_apart_40 : decode cX7_apart 40 = .ok (.sipush 9999, 3) := dk_17 39 15 (dk_at dksX7_apart_1 17 rfl rfl)
theorem dX7_apart_43 : decode cX7_apart 43 = .ok (.if_icmp .ne 8, 3) := dk_160 0 8 (dk_at dksX7_apart_1 20 rfl rfl)
theorem dX7_apart_46 : decode cX7_apart 46 = .ok (.bipush (-2), 2) := dk_16 254 (dk_at dksX7_apart_2 0 rfl rfl)
theorem dX7_apart_48 : decode cX7_apart 48 = .ok (.goto 4, 3) := dk_167 0 4 (dk_at dksX7_apart_2 2 rfl rfl)
theorem dX7_apart_51 : decode cX7_apart 51 = .ok (.iload_n 3, 1) := dk_29 (dk_at dksX7_apart_2 5 rfl rfl)
theorem dX7_apart_52 : decode cX7_apart 52 = .ok (.invokevirtual 61, 3) := dk_182 0 61 (dk_at dksX7_apart_2 6 rfl rfl)
theorem dX7_apart_55 : decode cX7_apart 55 = .ok (.ireturn, 1) := dk_172 (dk_at dksX7_apart_2 9 rfl rfl)
abbrev cX7_toAsk : ByteArray := prog_14_method_87_code
def yX7_toAsk : MethodName := ⟨RX7, "toAsk", "(I)I"⟩
def dkwX7_toAsk_4 : List UInt8 := [167, 255, 197, 42, 29, 182, 0, 61, 172]
abbrev dktX7_toAsk_4 : List UInt8 := dkwX7_toAsk_4 ++ []
def dkwX7_toAsk_3 : List UInt8 := [42, 180, 0, 17, 21, 4, 46, 42, 180, 0, 17, 29, 46, 164, 0, 6, 21, 4, 62, 132, 4, 1]
abbrev dktX7_toAsk_3 : List UInt8 := dkwX7_toAsk_3 ++ dktX7_toAsk_4
def dkwX7_toAsk_2 : List UInt8 := [21, 4, 184, 0, 235, 153, 0, 38, 42, 21, 4, 182, 1, 44, 27, 159, 0, 28, 29, 16, 254, 159, 0, 19]
abbrev dktX7_toAsk_2 : List UInt8 := dkwX7_toAsk_2 ++ dktX7_toAsk_3
def dkwX7_toAsk_1 : List UInt8 := [27, 182, 1, 62, 61, 16, 254, 62, 3, 54, 4, 21, 4, 42, 180, 1, 24, 180, 0, 170, 162, 0, 53, 28]
abbrev dktX7_toAsk_1 : List UInt8 := dkwX7_toAsk_1 ++ dktX7_toAsk_2
def dkwX7_toAsk_0 : List UInt8 := [42, 3, 181, 0, 51, 42, 27, 182, 1, 35, 154, 0, 9, 42, 4, 182, 0, 57, 172, 42, 182, 1, 59, 42]
abbrev dktX7_toAsk_0 : List UInt8 := dkwX7_toAsk_0 ++ dktX7_toAsk_1
theorem dksX7_toAsk_0 : cX7_toAsk.data.toList.drop 0 = dktX7_toAsk_0 := by decide +kernel
theorem dksX7_toAsk_1 : cX7_toAsk.data.toList.drop 24 = dktX7_toAsk_1 := dk_seg dksX7_toAsk_0 24 rfl rfl
theorem dksX7_toAsk_2 : cX7_toAsk.data.toList.drop 48 = dktX7_toAsk_2 := dk_seg dksX7_toAsk_1 24 rfl rfl
theorem dksX7_toAsk_3 : cX7_toAsk.data.toList.drop 72 = dktX7_toAsk_3 := dk_seg dksX7_toAsk_2 24 rfl rfl
theorem dksX7_toAsk_4 : cX7_toAsk.data.toList.drop 94 = dktX7_toAsk_4 := dk_seg dksX7_toAsk_3 22 rfl rfl
theorem dX7_toAsk_0 : decode cX7_toAsk 0 = .ok (.aload_n 0, 1) := dk_42 (dk_at dksX7_toAsk_0 0 rfl rfl)
theorem dX7_toAsk_1 : decode cX7_toAsk 1 = .ok (.iconst 0, 1) := dk_3 (dk_at dksX7_toAsk_0 1 rfl rfl)
theorem dX7_toAsk_2 : decode cX7_toAsk 2 = .ok (.putfield 51, 3) := dk_181 0 51 (dk_at dksX7_toAsk_0 2 rfl rfl)
theorem dX7_toAsk_5 : decode cX7_toAsk 5 = .ok (.aload_n 0, 1) := dk_42 (dk_at dksX7_toAsk_0 5 rfl rfl)
theorem dX7_toAsk_6 : decode cX7_toAsk 6 = .ok (.iload_n 1, 1) := dk_27 (dk_at dksX7_toAsk_0 6 rfl rfl)
theorem dX7_toAsk_7 : decode cX7_toAsk 7 = .ok (.invokevirtual 291, 3) := dk_182 1 35 (dk_at dksX7_toAsk_0 7 rfl rfl)
theorem dX7_toAsk_10 : decode cX7_toAsk 10 = .ok (.ifCond .ne 9, 3) := dk_154 0 9 (dk_at dksX7_toAsk_0 10 rfl rfl)
theorem dX7_toAsk_13 : decode cX7_toAsk 13 = .ok (.aload_n 0, 1) := dk_42 (dk_at dksX7_toAsk_0 13 rfl rfl)
theorem dX7_toAsk_14 : decode cX7_toAsk 14 = .ok (.iconst 1, 1) := dk_4 (dk_at dksX7_toAsk_0 14 rfl rfl)
theorem dX7_toAsk_15 : decode cX7_toAsk 15 = .ok (.invokevirtual 57, 3) := dk_182 0 57 (dk_at dksX7_toAsk_0 15 rfl rfl)
theorem dX7_toAsk_18 : decode cX7_toAsk 18 = .ok (.ireturn, 1) := dk_172 (dk_at dksX7_toAsk_0 18 rfl rfl)
theorem dX7_toAsk_19 : decode cX7_toAsk 19 = .ok (.aload_n 0, 1) := dk_42 (dk_at dksX7_toAsk_0 19 rfl rfl)
theorem dX7_toAsk_20 : decode cX7_toAsk 20 = .ok (.invokevirtual 315, 3) := dk_182 1 59 (dk_at dksX7_toAsk_0 20 rfl rfl)
theorem dX7_toAsk_23 : decode cX7_toAsk 23 = .ok (.aload_n 0, 1) := dk_42 (dk_at dksX7_toAsk_0 23 rfl rfl)
theorem dX7_toAsk_24 : decode cX7_toAsk 24 = .ok (.iload_n 1, 1) := dk_27 (dk_at dksX7_toAsk_1 0 rfl rfl)
theorem dX7_toAsk_25 : decode cX7_toAsk 25 = .ok (.invokevirtual 318, 3) := dk_182 1 62 (dk_at dksX7_toAsk_1 1 rfl rfl)
theorem dX7_toAsk_28 : decode cX7_toAsk 28 = .ok (.istore_n 2, 1) := dk_61 (dk_at dksX7_toAsk_1 4 rfl rfl)
theorem dX7_toAsk_29 : decode cX7_toAsk 29 = .ok (.bipush (-2), 2) := dk_16 254 (dk_at dksX7_toAsk_1 5 rfl rfl)
theorem dX7_toAsk_31 : decode cX7_toAsk 31 = .ok (.istore_n 3, 1) := dk_62 (dk_at dksX7_toAsk_1 7 rfl rfl)
theorem dX7_toAsk_32 : decode cX7_toAsk 32 = .ok (.iconst 0, 1) := dk_3 (dk_at dksX7_toAsk_1 8 rfl rfl)
theorem dX7_toAsk_33 : decode cX7_toAsk 33 = .ok (.istore 4, 2) := dk_54 4 (dk_at dksX7_toAsk_1 9 rfl rfl)
theorem dX7_toAsk_35 : decode cX7_toAsk 35 = .ok (.iload 4, 2) := dk_21 4 (dk_at dksX7_toAsk_1 11 rfl rfl)
theorem dX7_toAsk_37 : decode cX7_toAsk 37 = .ok (.aload_n 0, 1) := dk_42 (dk_at dksX7_toAsk_1 13 rfl rfl)
theorem dX7_toAsk_38 : decode cX7_toAsk 38 = .ok (.getfield 280, 3) := dk_180 1 24 (dk_at dksX7_toAsk_1 14 rfl rfl)
theorem dX7_toAsk_41 : decode cX7_toAsk 41 = .ok (.getfield 170, 3) := dk_180 0 170 (dk_at dksX7_toAsk_1 17 rfl rfl)
theorem dX7_toAsk_44 : decode cX7_toAsk 44 = .ok (.if_icmp .ge 53, 3) := dk_162 0 53 (dk_at dksX7_toAsk_1 20 rfl rfl)
theorem dX7_toAsk_47 : decode cX7_toAsk 47 = .ok (.iload_n 2, 1) := dk_28 (dk_at dksX7_toAsk_1 23 rfl rfl)
theorem dX7_toAsk_48 : decode cX7_toAsk 48 = .ok (.iload 4, 2) := dk_21 4 (dk_at dksX7_toAsk_2 0 rfl rfl)
theorem dX7_toAsk_50 : decode cX7_toAsk 50 = .ok (.invokestatic 235, 3) := dk_184 0 235 (dk_at dksX7_toAsk_2 2 rfl rfl)
theorem dX7_toAsk_53 : decode cX7_toAsk 53 = .ok (.ifCond .eq 38, 3) := dk_153 0 38 (dk_at dksX7_toAsk_2 5 rfl rfl)
theorem dX7_toAsk_56 : decode cX7_toAsk 56 = .ok (.aload_n 0, 1) := dk_42 (dk_at dksX7_toAsk_2 8 rfl rfl)
theorem dX7_toAsk_57 : decode cX7_toAsk 57 = .ok (.iload 4, 2) := dk_21 4 (dk_at dksX7_toAsk_2 9 rfl rfl)
theorem dX7_toAsk_59 : decode cX7_toAsk 59 = .ok (.invokevirtual 300, 3) := dk_182 1 44 (dk_at dksX7_toAsk_2 11 rfl rfl)
theorem dX7_toAsk_62 : decode cX7_toAsk 62 = .ok (.iload_n 1, 1) := dk_27 (dk_at dksX7_toAsk_2 14 rfl rfl)
theorem dX7_toAsk_63 : decode cX7_toAsk 63 = .ok (.if_icmp .eq 28, 3) := dk_159 0 28 (dk_at dksX7_toAsk_2 15 rfl rfl)
theorem dX7_toAsk_66 : decode cX7_toAsk 66 = .ok (.iload_n 3, 1) := dk_29 (dk_at dksX7_toAsk_2 18 rfl rfl)
theorem dX7_toAsk_67 : decode cX7_toAsk 67 = .ok (.bipush (-2), 2) := dk_16 254 (dk_at dksX7_toAsk_2 19 rfl rfl)
theorem dX7_toAsk_69 : decode cX7_toAsk 69 = .ok (.if_icmp .eq 19, 3) := dk_159 0 19 (dk_at dksX7_toAsk_2 21 rfl rfl)
theorem dX7_toAsk_72 : decode cX7_toAsk 72 = .ok (.aload_n 0, 1) := dk_42 (dk_at dksX7_toAsk_3 0 rfl rfl)
theorem dX7_toAsk_73 : decode cX7_toAsk 73 = .ok (.getfield 17, 3) := dk_180 0 17 (dk_at dksX7_toAsk_3 1 rfl rfl)
theorem dX7_toAsk_76 : decode cX7_toAsk 76 = .ok (.iload 4, 2) := dk_21 4 (dk_at dksX7_toAsk_3 4 rfl rfl)
theorem dX7_toAsk_78 : decode cX7_toAsk 78 = .ok (.iaload, 1) := dk_46 (dk_at dksX7_toAsk_3 6 rfl rfl)
theorem dX7_toAsk_79 : decode cX7_toAsk 79 = .ok (.aload_n 0, 1) := dk_42 (dk_at dksX7_toAsk_3 7 rfl rfl)
theorem dX7_toAsk_80 : decode cX7_toAsk 80 = .ok (.getfield 17, 3) := dk_180 0 17 (dk_at dksX7_toAsk_3 8 rfl rfl)
theorem dX7_toAsk_83 : decode cX7_toAsk 83 = .ok (.iload_n 3, 1) := dk_29 (dk_at dksX7_toAsk_3 11 rfl rfl)
theorem dX7_toAsk_84 : decode cX7_toAsk 84 = .ok (.iaload, 1) := dk_46 (dk_at dksX7_toAsk_3 12 rfl rfl)
theorem dX7_toAsk_85 : decode cX7_toAsk 85 = .ok (.if_icmp .le 6, 3) := dk_164 0 6 (dk_at dksX7_toAsk_3 13 rfl rfl)
theorem dX7_toAsk_88 : decode cX7_toAsk 88 = .ok (.iload 4, 2) := dk_21 4 (dk_at dksX7_toAsk_3 16 rfl rfl)
theorem dX7_toAsk_90 : decode cX7_toAsk 90 = .ok (.istore_n 3, 1) := dk_62 (dk_at dksX7_toAsk_3 18 rfl rfl)
theorem dX7_toAsk_91 : decode cX7_toAsk 91 = .ok (.iinc 4 1, 3) := dk_132 4 1 (dk_at dksX7_toAsk_3 19 rfl rfl)
theorem dX7_toAsk_94 : decode cX7_toAsk 94 = .ok (.goto (-59), 3) := dk_167 255 197 (dk_at dksX7_toAsk_4 0 rfl rfl)
theorem dX7_toAsk_97 : decode cX7_toAsk 97 = .ok (.aload_n 0, 1) := dk_42 (dk_at dksX7_toAsk_4 3 rfl rfl)
theorem dX7_toAsk_98 : decode cX7_toAsk 98 = .ok (.iload_n 3, 1) := dk_29 (dk_at dksX7_toAsk_4 4 rfl rfl)
theorem dX7_toAsk_99 : decode cX7_toAsk 99 = .ok (.invokevirtual 61, 3) := dk_182 0 61 (dk_at dksX7_toAsk_4 5 rfl rfl)
theorem dX7_toAsk_102 : decode cX7_toAsk 102 = .ok (.ireturn, 1) := dk_172 (dk_at dksX7_toAsk_4 8 rfl rfl)
abbrev cX7_rivals : ByteArray := prog_14_method_88_code
def yX7_rivals : MethodName := ⟨RX7, "rivals", "(II)I"⟩
def dkwX7_rivals_7 : List UInt8 := [172]
abbrev dktX7_rivals_7 : List UInt8 := dkwX7_rivals_7 ++ []
def dkwX7_rivals_6 : List UInt8 := [21, 4, 27, 162, 0, 10, 29, 4, 21, 4, 120, 128, 62, 132, 4, 1, 167, 255, 172, 42, 29, 182, 0, 61]
abbrev dktX7_rivals_6 : List UInt8 := dkwX7_rivals_6 ++ dktX7_rivals_7
def dkwX7_rivals_5 : List UInt8 := [27, 28, 182, 1, 41, 163, 0, 25, 42, 21, 4, 28, 182, 1, 41, 42, 27, 28, 182, 1, 41, 160, 0, 16]
abbrev dktX7_rivals_5 : List UInt8 := dkwX7_rivals_5 ++ dktX7_rivals_6
def dkwX7_rivals_4 : List UInt8 := [28, 159, 0, 60, 42, 21, 4, 182, 1, 38, 154, 0, 6, 167, 0, 48, 42, 21, 4, 28, 182, 1, 41, 42]
abbrev dktX7_rivals_4 : List UInt8 := dkwX7_rivals_4 ++ dktX7_rivals_5
def dkwX7_rivals_3 : List UInt8 := [62, 3, 54, 4, 21, 4, 42, 180, 1, 24, 180, 0, 170, 162, 0, 78, 21, 4, 27, 159, 0, 66, 21, 4]
abbrev dktX7_rivals_3 : List UInt8 := dkwX7_rivals_3 ++ dktX7_rivals_4
def dkwX7_rivals_2 : List UInt8 := [182, 1, 38, 153, 0, 13, 42, 27, 28, 182, 1, 41, 2, 160, 0, 10, 42, 16, 254, 182, 0, 61, 172, 3]
abbrev dktX7_rivals_2 : List UInt8 := dkwX7_rivals_2 ++ dktX7_rivals_3
def dkwX7_rivals_1 : List UInt8 := [16, 42, 46, 28, 184, 0, 235, 154, 0, 9, 42, 8, 182, 0, 57, 172, 42, 182, 1, 59, 42, 27]
abbrev dktX7_rivals_1 : List UInt8 := dkwX7_rivals_1 ++ dktX7_rivals_2
def dkwX7_rivals_0 : List UInt8 := [42, 3, 181, 0, 51, 42, 27, 28, 182, 1, 70, 154, 0, 9, 42, 4, 182, 0, 57, 172, 42, 180, 0, 17]
abbrev dktX7_rivals_0 : List UInt8 := dkwX7_rivals_0 ++ dktX7_rivals_1
theorem dksX7_rivals_0 : cX7_rivals.data.toList.drop 0 = dktX7_rivals_0 := by decide +kernel
theorem dksX7_rivals_1 : cX7_rivals.data.toList.drop 24 = dktX7_rivals_1 := dk_seg dksX7_rivals_0 24 rfl rfl
theorem dksX7_rivals_2 : cX7_rivals.data.toList.drop 46 = dktX7_rivals_2 := dk_seg dksX7_rivals_1 22 rfl rfl
theorem dksX7_rivals_3 : cX7_rivals.data.toList.drop 70 = dktX7_rivals_3 := dk_seg dksX7_rivals_2 24 rfl rfl
theorem dksX7_rivals_4 : cX7_rivals.data.toList.drop 94 = dktX7_rivals_4 := dk_seg dksX7_rivals_3 24 rfl rfl
theorem dksX7_rivals_5 : cX7_rivals.data.toList.drop 118 = dktX7_rivals_5 := dk_seg dksX7_rivals_4 24 rfl rfl
theorem dksX7_rivals_6 : cX7_rivals.data.toList.drop 142 = dktX7_rivals_6 := dk_seg dksX7_rivals_5 24 rfl rfl
theorem dksX7_rivals_7 : cX7_rivals.data.toList.drop 166 = dktX7_rivals_7 := dk_seg dksX7_rivals_6 24 rfl rfl
theorem dX7_rivals_0 : decode cX7_rivals 0 = .ok (.aload_n 0, 1) := dk_42 (dk_at dksX7_rivals_0 0 rfl rfl)
theorem dX7_rivals_1 : decode cX7_rivals 1 = .ok (.iconst 0, 1) := dk_3 (dk_at dksX7_rivals_0 1 rfl rfl)
theorem dX7_rivals_2 : decode cX7_rivals 2 = .ok (.putfield 51, 3) := dk_181 0 51 (dk_at dksX7_rivals_0 2 rfl rfl)
theorem dX7_rivals_5 : decode cX7_rivals 5 = .ok (.aload_n 0, 1) := dk_42 (dk_at dksX7_rivals_0 5 rfl rfl)
theorem dX7_rivals_6 : decode cX7_rivals 6 = .ok (.iload_n 1, 1) := dk_27 (dk_at dksX7_rivals_0 6 rfl rfl)
theorem dX7_rivals_7 : decode cX7_rivals 7 = .ok (.iload_n 2, 1) := dk_28 (dk_at dksX7_rivals_0 7 rfl rfl)
theorem dX7_rivals_8 : decode cX7_rivals 8 = .ok (.invokevirtual 326, 3) := dk_182 1 70 (dk_at dksX7_rivals_0 8 rfl rfl)
theorem dX7_rivals_11 : decode cX7_rivals 11 = .ok (.ifCond .ne 9, 3) := dk_154 0 9 (dk_at dksX7_rivals_0 11 rfl rfl)
theorem dX7_rivals_14 : decode cX7_rivals 14 = .ok (.aload_n 0, 1) := dk_42 (dk_at dksX7_rivals_0 14 rfl rfl)
theorem dX7_rivals_15 : decode cX7_rivals 15 = .ok (.iconst 1, 1) := dk_4 (dk_at dksX7_rivals_0 15 rfl rfl)
theorem dX7_rivals_16 : decode cX7_rivals 16 = .ok (.invokevirtual 57, 3) := dk_182 0 57 (dk_at dksX7_rivals_0 16 rfl rfl)
theorem dX7_rivals_19 : decode cX7_rivals 19 = .ok (.ireturn, 1) := dk_172 (dk_at dksX7_rivals_0 19 rfl rfl)
theorem dX7_rivals_20 : decode cX7_rivals 20 = .ok (.aload_n 0, 1) := dk_42 (dk_at dksX7_rivals_0 20 rfl rfl)
theorem dX7_rivals_21 : decode cX7_rivals 21 = .ok (.getfield 17, 3) := dk_180 0 17 (dk_at dksX7_rivals_0 21 rfl rfl)
theorem dX7_rivals_24 : decode cX7_rivals 24 = .ok (.bipush 42, 2) := dk_16 42 (dk_at dksX7_rivals_1 0 rfl rfl)
theorem dX7_rivals_26 : decode cX7_rivals 26 = .ok (.iaload, 1) := dk_46 (dk_at dksX7_rivals_1 2 rfl rfl)
theorem dX7_rivals_27 : decode cX7_rivals 27 = .ok (.iload_n 2, 1) := dk_28 (dk_at dksX7_rivals_1 3 rfl rfl)
theorem dX7_rivals_28 : decode cX7_rivals 28 = .ok (.invokestatic 235, 3) := dk_184 0 235 (dk_at dksX7_rivals_1 4 rfl rfl)
theorem dX7_rivals_31 : decode cX7_rivals 31 = .ok (.ifCond .ne 9, 3) := dk_154 0 9 (dk_at dksX7_rivals_1 7 rfl rfl)
theorem dX7_rivals_34 : decode cX7_rivals 34 = .ok (.aload_n 0, 1) := dk_42 (dk_at dksX7_rivals_1 10 rfl rfl)
theorem dX7_rivals_35 : decode cX7_rivals 35 = .ok (.iconst 5, 1) := dk_8 (dk_at dksX7_rivals_1 11 rfl rfl)
theorem dX7_rivals_36 : decode cX7_rivals 36 = .ok (.invokevirtual 57, 3) := dk_182 0 57 (dk_at dksX7_rivals_1 12 rfl rfl)
theorem dX7_rivals_39 : decode cX7_rivals 39 = .ok (.ireturn, 1) := dk_172 (dk_at dksX7_rivals_1 15 rfl rfl)
theorem dX7_rivals_40 : decode cX7_rivals 40 = .ok (.aload_n 0, 1) := dk_42 (dk_at dksX7_rivals_1 16 rfl rfl)
theorem dX7_rivals_41 : decode cX7_rivals 41 = .ok (.invokevirtual 315, 3) := dk_182 1 59 (dk_at dksX7_rivals_1 17 rfl rfl)
theorem dX7_rivals_44 : decode cX7_rivals 44 = .ok (.aload_n 0, 1) := dk_42 (dk_at dksX7_rivals_1 20 rfl rfl)
theorem dX7_rivals_45 : decode cX7_rivals 45 = .ok (.iload_n 1, 1) := dk_27 (dk_at dksX7_rivals_1 21 rfl rfl)
theorem dX7_rivals_46 : decode cX7_rivals 46 = .ok (.invokevirtual 294, 3) := dk_182 1 38 (dk_at dksX7_rivals_2 0 rfl rfl)
theorem dX7_rivals_49 : decode cX7_rivals 49 = .ok (.ifCond .eq 13, 3) := dk_153 0 13 (dk_at dksX7_rivals_2 3 rfl rfl)
theorem dX7_rivals_52 : decode cX7_rivals 52 = .ok (.aload_n 0, 1) := dk_42 (dk_at dksX7_rivals_2 6 rfl rfl)
theorem dX7_rivals_53 : decode cX7_rivals 53 = .ok (.iload_n 1, 1) := dk_27 (dk_at dksX7_rivals_2 7 rfl rfl)
theorem dX7_rivals_54 : decode cX7_rivals 54 = .ok (.iload_n 2, 1) := dk_28 (dk_at dksX7_rivals_2 8 rfl rfl)
theorem dX7_rivals_55 : decode cX7_rivals 55 = .ok (.invokevirtual 297, 3) := dk_182 1 41 (dk_at dksX7_rivals_2 9 rfl rfl)
theorem dX7_rivals_58 : decode cX7_rivals 58 = .ok (.iconst (-1), 1) := dk_2 (dk_at dksX7_rivals_2 12 rfl rfl)
theorem dX7_rivals_59 : decode cX7_rivals 59 = .ok (.if_icmp .ne 10, 3) := dk_160 0 10 (dk_at dksX7_rivals_2 13 rfl rfl)
theorem dX7_rivals_62 : decode cX7_rivals 62 = .ok (.aload_n 0, 1) := dk_42 (dk_at dksX7_rivals_2 16 rfl rfl)
theorem dX7_rivals_63 : decode cX7_rivals 63 = .ok (.bipush (-2), 2) := dk_16 254 (dk_at dksX7_rivals_2 17 rfl rfl)
theorem dX7_rivals_65 : decode cX7_rivals 65 = .ok (.invokevirtual 61, 3) := dk_182 0 61 (dk_at dksX7_rivals_2 19 rfl rfl)
theorem dX7_rivals_68 : decode cX7_rivals 68 = .ok (.ireturn, 1) := dk_172 (dk_at dksX7_rivals_2 22 rfl rfl)
theorem dX7_rivals_69 : decode cX7_rivals 69 = .ok (.iconst 0, 1) := dk_3 (dk_at dksX7_rivals_2 23 rfl rfl)
theorem dX7_rivals_70 : decode cX7_rivals 70 = .ok (.istore_n 3, 1) := dk_62 (dk_at dksX7_rivals_3 0 rfl rfl)
theorem dX7_rivals_71 : decode cX7_rivals 71 = .ok (.iconst 0, 1) := dk_3 (dk_at dksX7_rivals_3 1 rfl rfl)
theorem dX7_rivals_72 : decode cX7_rivals 72 = .ok (.istore 4, 2) := dk_54 4 (dk_at dksX7_rivals_3 2 rfl rfl)
theorem dX7_rivals_74 : decode cX7_rivals 74 = .ok (.iload 4, 2) := dk_21 4 (dk_at dksX7_rivals_3 4 rfl rfl)
theorem dX7_rivals_76 : decode cX7_rivals 76 = .ok (.aload_n 0, 1) := dk_42 (dk_at dksX7_rivals_3 6 rfl rfl)
theorem dX7_rivals_77 : decode cX7_rivals 77 = .ok (.getfield 280, 3) := dk_180 1 24 (dk_at dksX7_rivals_3 7 rfl rfl)
theorem dX7_rivals_80 : decode cX7_rivals 80 = .ok (.getfield 170, 3) := dk_180 0 170 (dk_at dksX7_rivals_3 10 rfl rfl)
theorem dX7_rivals_83 : decode cX7_rivals 83 = .ok (.if_icmp .ge 78, 3) := dk_162 0 78 (dk_at dksX7_rivals_3 13 rfl rfl)
theorem dX7_rivals_86 : decode cX7_rivals 86 = .ok (.iload 4, 2) := dk_21 4 (dk_at dksX7_rivals_3 16 rfl rfl)
theorem dX7_rivals_88 : decode cX7_rivals 88 = .ok (.iload_n 1, 1) := dk_27 (dk_at dksX7_rivals_3 18 rfl rfl)
theorem dX7_rivals_89 : decode cX7_rivals 89 = .ok (.if_icmp .eq 66, 3) := dk_159 0 66 (dk_at dksX7_rivals_3 19 rfl rfl)
theorem dX7_rivals_92 : decode cX7_rivals 92 = .ok (.iload 4, 2) := dk_21 4 (dk_at dksX7_rivals_3 22 rfl rfl)
theorem dX7_rivals_94 : decode cX7_rivals 94 = .ok (.iload_n 2, 1) := dk_28 (dk_at dksX7_rivals_4 0 rfl rfl)
theorem dX7_rivals_95 : decode cX7_rivals 95 = .ok (.if_icmp .eq 60, 3) := dk_159 0 60 (dk_at dksX7_rivals_4 1 rfl rfl)
theorem dX7_rivals_98 : decode cX7_rivals 98 = .ok (.aload_n 0, 1) := dk_42 (dk_at dksX7_rivals_4 4 rfl rfl)
theorem dX7_rivals_99 : decode cX7_rivals 99 = .ok (.iload 4, 2) := dk_21 4 (dk_at dksX7_rivals_4 5 rfl rfl)
theorem dX7_rivals_101 : decode cX7_rivals 101 = .ok (.invokevirtual 294, 3) := dk_182 1 38 (dk_at dksX7_rivals_4 7 rfl rfl)
theorem dX7_rivals_104 : decode cX7_rivals 104 = .ok (.ifCond .ne 6, 3) := dk_154 0 6 (dk_at dksX7_rivals_4 10 rfl rfl)
theorem dX7_rivals_107 : decode cX7_rivals 107 = .ok (.goto 48, 3) := dk_167 0 48 (dk_at dksX7_rivals_4 13 rfl rfl)
theorem dX7_rivals_110 : decode cX7_rivals 110 = .ok (.aload_n 0, 1) := dk_42 (dk_at dksX7_rivals_4 16 rfl rfl)
theorem dX7_rivals_111 : decode cX7_rivals 111 = .ok (.iload 4, 2) := dk_21 4 (dk_at dksX7_rivals_4 17 rfl rfl)
theorem dX7_rivals_113 : decode cX7_rivals 113 = .ok (.iload_n 2, 1) := dk_28 (dk_at dksX7_rivals_4 19 rfl rfl)
theorem dX7_rivals_114 : decode cX7_rivals 114 = .ok (.invokevirtual 297, 3) := dk_182 1 41 (dk_at dksX7_rivals_4 20 rfl rfl)
theorem dX7_rivals_117 : decode cX7_rivals 117 = .ok (.aload_n 0, 1) := dk_42 (dk_at dksX7_rivals_4 23 rfl rfl)
theorem dX7_rivals_118 : decode cX7_rivals 118 = .ok (.iload_n 1, 1) := dk_27 (dk_at dksX7_rivals_5 0 rfl rfl)
theorem dX7_rivals_119 : decode cX7_rivals 119 = .ok (.iload_n 2, 1) := dk_28 (dk_at dksX7_rivals_5 1 rfl rfl)
theorem dX7_rivals_120 : decode cX7_rivals 120 = .ok (.invokevirtual 297, 3) := dk_182 1 41 (dk_at dksX7_rivals_5 2 rfl rfl)
theorem dX7_rivals_123 : decode cX7_rivals 123 = .ok (.if_icmp .gt 25, 3) := dk_163 0 25 (dk_at dksX7_rivals_5 5 rfl rfl)
theorem dX7_rivals_126 : decode cX7_rivals 126 = .ok (.aload_n 0, 1) := dk_42 (dk_at dksX7_rivals_5 8 rfl rfl)
theorem dX7_rivals_127 : decode cX7_rivals 127 = .ok (.iload 4, 2) := dk_21 4 (dk_at dksX7_rivals_5 9 rfl rfl)
theorem dX7_rivals_129 : decode cX7_rivals 129 = .ok (.iload_n 2, 1) := dk_28 (dk_at dksX7_rivals_5 11 rfl rfl)
theorem dX7_rivals_130 : decode cX7_rivals 130 = .ok (.invokevirtual 297, 3) := dk_182 1 41 (dk_at dksX7_rivals_5 12 rfl rfl)
theorem dX7_rivals_133 : decode cX7_rivals 133 = .ok (.aload_n 0, 1) := dk_42 (dk_at dksX7_rivals_5 15 rfl rfl)
theorem dX7_rivals_134 : decode cX7_rivals 134 = .ok (.iload_n 1, 1) := dk_27 (dk_at dksX7_rivals_5 16 rfl rfl)
theorem dX7_rivals_135 : decode cX7_rivals 135 = .ok (.iload_n 2, 1) := dk_28 (dk_at dksX7_rivals_5 17 rfl rfl)
theorem dX7_rivals_136 : decode cX7_rivals 136 = .ok (.invokevirtual 297, 3) := dk_182 1 41 (dk_at dksX7_rivals_5 18 rfl rfl)
theorem dX7_rivals_139 : decode cX7_rivals 139 = .ok (.if_icmp .ne 16, 3) := dk_160 0 16 (dk_at dksX7_rivals_5 21 rfl rfl)
theorem dX7_rivals_142 : decode cX7_rivals 142 = .ok (.iload 4, 2) := dk_21 4 (dk_at dksX7_rivals_6 0 rfl rfl)
theorem dX7_rivals_144 : decode cX7_rivals 144 = .ok (.iload_n 1, 1) := dk_27 (dk_at dksX7_rivals_6 2 rfl rfl)
theorem dX7_rivals_145 : decode cX7_rivals 145 = .ok (.if_icmp .ge 10, 3) := dk_162 0 10 (dk_at dksX7_rivals_6 3 rfl rfl)
theorem dX7_rivals_148 : decode cX7_rivals 148 = .ok (.iload_n 3, 1) := dk_29 (dk_at dksX7_rivals_6 6 rfl rfl)
theorem dX7_rivals_149 : decode cX7_rivals 149 = .ok (.iconst 1, 1) := dk_4 (dk_at dksX7_rivals_6 7 rfl rfl)
theorem dX7_rivals_150 : decode cX7_rivals 150 = .ok (.iload 4, 2) := dk_21 4 (dk_at dksX7_rivals_6 8 rfl rfl)
theorem dX7_rivals_152 : decode cX7_rivals 152 = .ok (.ishl, 1) := dk_120 (dk_at dksX7_rivals_6 10 rfl rfl)
theorem dX7_rivals_153 : decode cX7_rivals 153 = .ok (.ior, 1) := dk_128 (dk_at dksX7_rivals_6 11 rfl rfl)
theorem dX7_rivals_154 : decode cX7_rivals 154 = .ok (.istore_n 3, 1) := dk_62 (dk_at dksX7_rivals_6 12 rfl rfl)
theorem dX7_rivals_155 : decode cX7_rivals 155 = .ok (.iinc 4 1, 3) := dk_132 4 1 (dk_at dksX7_rivals_6 13 rfl rfl)
theorem dX7_rivals_158 : decode cX7_rivals 158 = .ok (.goto (-84), 3) := dk_167 255 172 (dk_at dksX7_rivals_6 16 rfl rfl)
theorem dX7_rivals_161 : decode cX7_rivals 161 = .ok (.aload_n 0, 1) := dk_42 (dk_at dksX7_rivals_6 19 rfl rfl)
theorem dX7_rivals_162 : decode cX7_rivals 162 = .ok (.iload_n 3, 1) := dk_29 (dk_at dksX7_rivals_6 20 rfl rfl)
theorem dX7_rivals_163 : decode cX7_rivals 163 = .ok (.invokevirtual 61, 3) := dk_182 0 61 (dk_at dksX7_rivals_6 21 rfl rfl)
theorem dX7_rivals_166 : decode cX7_rivals 166 = .ok (.ireturn, 1) := dk_172 (dk_at dksX7_rivals_7 0 rfl rfl)
abbrev cX7_fits : ByteArray := prog_14_method_93_code
def yX7_fits : MethodName := ⟨RX7, "fits", "()I"⟩
def dkwX7_fits_1 : List UInt8 := [87, 42, 42, 180, 1, 138, 182, 0, 61, 172]
abbrev dktX7_fits_1 : List UInt8 := dkwX7_fits_1 ++ []
def dkwX7_fits_0 : List UInt8 := [42, 3, 181, 0, 51, 42, 180, 1, 24, 199, 0, 9, 42, 4, 182, 0, 57, 172, 42, 2, 3, 182, 1, 150]
abbrev dktX7_fits_0 : List UInt8 := dkwX7_fits_0 ++ dktX7_fits_1
theorem dksX7_fits_0 : cX7_fits.data.toList.drop 0 = dktX7_fits_0 := by decide +kernel
theorem dksX7_fits_1 : cX7_fits.data.toList.drop 24 = dktX7_fits_1 := dk_seg dksX7_fits_0 24 rfl rfl
theorem dX7_fits_0 : decode cX7_fits 0 = .ok (.aload_n 0, 1) := dk_42 (dk_at dksX7_fits_0 0 rfl rfl)
theorem dX7_fits_1 : decode cX7_fits 1 = .ok (.iconst 0, 1) := dk_3 (dk_at dksX7_fits_0 1 rfl rfl)
theorem dX7_fits_2 : decode cX7_fits 2 = .ok (.putfield 51, 3) := dk_181 0 51 (dk_at dksX7_fits_0 2 rfl rfl)
theorem dX7_fits_5 : decode cX7_fits 5 = .ok (.aload_n 0, 1) := dk_42 (dk_at dksX7_fits_0 5 rfl rfl)
theorem dX7_fits_6 : decode cX7_fits 6 = .ok (.getfield 280, 3) := dk_180 1 24 (dk_at dksX7_fits_0 6 rfl rfl)
theorem dX7_fits_9 : decode cX7_fits 9 = .ok (.ifnonnull 9, 3) := dk_199 0 9 (dk_at dksX7_fits_0 9 rfl rfl)
theorem dX7_fits_12 : decode cX7_fits 12 = .ok (.aload_n 0, 1) := dk_42 (dk_at dksX7_fits_0 12 rfl rfl)
theorem dX7_fits_13 : decode cX7_fits 13 = .ok (.iconst 1, 1) := dk_4 (dk_at dksX7_fits_0 13 rfl rfl)
theorem dX7_fits_14 : decode cX7_fits 14 = .ok (.invokevirtual 57, 3) := dk_182 0 57 (dk_at dksX7_fits_0 14 rfl rfl)
theorem dX7_fits_17 : decode cX7_fits 17 = .ok (.ireturn, 1) := dk_172 (dk_at dksX7_fits_0 17 rfl rfl)
theorem dX7_fits_18 : decode cX7_fits 18 = .ok (.aload_n 0, 1) := dk_42 (dk_at dksX7_fits_0 18 rfl rfl)
theorem dX7_fits_19 : decode cX7_fits 19 = .ok (.iconst (-1), 1) := dk_2 (dk_at dksX7_fits_0 19 rfl rfl)
theorem dX7_fits_20 : decode cX7_fits 20 = .ok (.iconst 0, 1) := dk_3 (dk_at dksX7_fits_0 20 rfl rfl)
theorem dX7_fits_21 : decode cX7_fits 21 = .ok (.invokevirtual 406, 3) := dk_182 1 150 (dk_at dksX7_fits_0 21 rfl rfl)
theorem dX7_fits_24 : decode cX7_fits 24 = .ok (.pop, 1) := dk_87 (dk_at dksX7_fits_1 0 rfl rfl)
theorem dX7_fits_25 : decode cX7_fits 25 = .ok (.aload_n 0, 1) := dk_42 (dk_at dksX7_fits_1 1 rfl rfl)
theorem dX7_fits_26 : decode cX7_fits 26 = .ok (.aload_n 0, 1) := dk_42 (dk_at dksX7_fits_1 2 rfl rfl)
theorem dX7_fits_27 : decode cX7_fits 27 = .ok (.getfield 394, 3) := dk_180 1 138 (dk_at dksX7_fits_1 3 rfl rfl)
theorem dX7_fits_30 : decode cX7_fits 30 = .ok (.invokevirtual 61, 3) := dk_182 0 61 (dk_at dksX7_fits_1 6 rfl rfl)
theorem dX7_fits_33 : decode cX7_fits 33 = .ok (.ireturn, 1) := dk_172 (dk_at dksX7_fits_1 9 rfl rfl)
abbrev cX7_fitting : ByteArray := prog_14_method_92_code
def yX7_fitting : MethodName := ⟨RX7, "fitting", "(II)Z"⟩
def dkwX7_fitting_16 : List UInt8 := [29, 172]
abbrev dktX7_fitting_16 : List UInt8 := dkwX7_fitting_16 ++ []
def dkwX7_fitting_15 : List UInt8 := [182, 1, 44, 104, 21, 7, 96, 92, 46, 4, 96, 79, 132, 7, 1, 167, 255, 209, 132, 5, 1, 167, 254, 240]
abbrev dktX7_fitting_15 : List UInt8 := dkwX7_fitting_15 ++ dktX7_fitting_16
def dkwX7_fitting_14 : List UInt8 := [162, 0, 41, 42, 21, 7, 182, 1, 44, 16, 254, 159, 0, 24, 42, 180, 0, 48, 16, 6, 42, 21, 7]
abbrev dktX7_fitting_14 : List UInt8 := dkwX7_fitting_14 ++ dktX7_fitting_15
def dkwX7_fitting_13 : List UInt8 := [46, 4, 96, 79, 132, 7, 1, 167, 255, 219, 3, 54, 7, 21, 7, 42, 180, 1, 24, 180, 0, 170]
abbrev dktX7_fitting_13 : List UInt8 := dkwX7_fitting_13 ++ dktX7_fitting_14
def dkwX7_fitting_12 : List UInt8 := [180, 0, 255, 162, 0, 31, 42, 180, 0, 45, 16, 7, 21, 7, 104, 42, 180, 0, 42, 21, 7, 46, 96, 92]
abbrev dktX7_fitting_12 : List UInt8 := dkwX7_fitting_12 ++ dktX7_fitting_13
def dkwX7_fitting_11 : List UInt8 := [181, 1, 147, 42, 89, 180, 1, 138, 4, 96, 181, 1, 138, 3, 54, 7, 21, 7, 42, 180, 1, 24]
abbrev dktX7_fitting_11 : List UInt8 := dkwX7_fitting_11 ++ dktX7_fitting_12
def dkwX7_fitting_10 : List UInt8 := [180, 0, 255, 162, 0, 18, 42, 28, 182, 1, 135, 42, 180, 0, 42, 28, 46, 96, 167, 0, 4, 3]
abbrev dktX7_fitting_10 : List UInt8 := dkwX7_fitting_10 ++ dktX7_fitting_11
def dkwX7_fitting_9 : List UInt8 := [159, 0, 6, 167, 0, 150, 42, 180, 1, 138, 27, 160, 0, 36, 4, 62, 42, 28, 42, 180, 1, 24]
abbrev dktX7_fitting_9 : List UInt8 := dkwX7_fitting_9 ++ dktX7_fitting_10
def dkwX7_fitting_8 : List UInt8 := [182, 1, 135, 42, 180, 0, 42, 21, 7, 46, 96, 79, 132, 7, 255, 167, 255, 175, 42, 182, 1, 144, 16, 254]
abbrev dktX7_fitting_8 : List UInt8 := dkwX7_fitting_8 ++ dktX7_fitting_9
def dkwX7_fitting_7 : List UInt8 := [180, 1, 4, 21, 7, 46, 104, 96, 42, 180, 1, 24, 180, 1, 7, 21, 7, 46, 96, 42, 21, 7]
abbrev dktX7_fitting_7 : List UInt8 := dkwX7_fitting_7 ++ dktX7_fitting_8
def dkwX7_fitting_6 : List UInt8 := [21, 6, 42, 21, 7, 182, 1, 141, 108, 54, 6, 42, 180, 0, 21, 16, 6, 16, 6, 42, 180, 1, 24]
abbrev dktX7_fitting_6 : List UInt8 := dkwX7_fitting_6 ++ dktX7_fitting_7
def dkwX7_fitting_5 : List UInt8 := [54, 7, 21, 7, 155, 0, 82, 42, 180, 0, 42, 21, 7, 21, 6, 42, 21, 7, 182, 1, 141, 112, 79]
abbrev dktX7_fitting_5 : List UInt8 := dkwX7_fitting_5 ++ dktX7_fitting_6
def dkwX7_fitting_4 : List UInt8 := [21, 5, 21, 4, 162, 1, 15, 21, 5, 54, 6, 42, 182, 1, 26, 42, 180, 1, 24, 180, 0, 255, 4, 100]
abbrev dktX7_fitting_4 : List UInt8 := dkwX7_fitting_4 ++ dktX7_fitting_5
def dkwX7_fitting_3 : List UInt8 := [21, 5, 16, 36, 162, 0, 17, 42, 180, 0, 48, 21, 5, 3, 79, 132, 5, 1, 167, 255, 238, 3, 54, 5]
abbrev dktX7_fitting_3 : List UInt8 := dkwX7_fitting_3 ++ dktX7_fitting_4
def dkwX7_fitting_2 : List UInt8 := [21, 5, 16, 21, 162, 0, 17, 42, 180, 0, 45, 21, 5, 3, 79, 132, 5, 1, 167, 255, 238, 3, 54, 5]
abbrev dktX7_fitting_2 : List UInt8 := dkwX7_fitting_2 ++ dktX7_fitting_3
def dkwX7_fitting_1 : List UInt8 := [162, 0, 20, 21, 4, 42, 21, 5, 182, 1, 141, 104, 54, 4, 132, 5, 1, 167, 255, 230, 3, 54, 5]
abbrev dktX7_fitting_1 : List UInt8 := dkwX7_fitting_1 ++ dktX7_fitting_2
def dkwX7_fitting_0 : List UInt8 := [3, 62, 4, 54, 4, 42, 3, 181, 1, 138, 3, 54, 5, 21, 5, 42, 180, 1, 24, 180, 0, 255]
abbrev dktX7_fitting_0 : List UInt8 := dkwX7_fitting_0 ++ dktX7_fitting_1
theorem dksX7_fitting_0 : cX7_fitting.data.toList.drop 0 = dktX7_fitting_0 := by decide +kernel
theorem dksX7_fitting_1 : cX7_fitting.data.toList.drop 22 = dktX7_fitting_1 := dk_seg dksX7_fitting_0 22 rfl rfl
theorem dksX7_fitting_2 : cX7_fitting.data.toList.drop 45 = dktX7_fitting_2 := dk_seg dksX7_fitting_1 23 rfl rfl
theorem dksX7_fitting_3 : cX7_fitting.data.toList.drop 69 = dktX7_fitting_3 := dk_seg dksX7_fitting_2 24 rfl rfl
theorem dksX7_fitting_4 : cX7_fitting.data.toList.drop 93 = dktX7_fitting_4 := dk_seg dksX7_fitting_3 24 rfl rfl
theorem dksX7_fitting_5 : cX7_fitting.data.toList.drop 117 = dktX7_fitting_5 := dk_seg dksX7_fitting_4 24 rfl rfl
theorem dksX7_fitting_6 : cX7_fitting.data.toList.drop 140 = dktX7_fitting_6 := dk_seg dksX7_fitting_5 23 rfl rfl
theorem dksX7_fitting_7 : cX7_fitting.data.toList.drop 163 = dktX7_fitting_7 := dk_seg dksX7_fitting_6 23 rfl rfl
theorem dksX7_fitting_8 : cX7_fitting.data.toList.drop 185 = dktX7_fitting_8 := dk_seg dksX7_fitting_7 22 rfl rfl
theorem dksX7_fitting_9 : cX7_fitting.data.toList.drop 209 = dktX7_fitting_9 := dk_seg dksX7_fitting_8 24 rfl rfl
theorem dksX7_fitting_10 : cX7_fitting.data.toList.drop 231 = dktX7_fitting_10 := dk_seg dksX7_fitting_9 22 rfl rfl
theorem dksX7_fitting_11 : cX7_fitting.data.toList.drop 253 = dktX7_fitting_11 := dk_seg dksX7_fitting_10 22 rfl rfl
theorem dksX7_fitting_12 : cX7_fitting.data.toList.drop 275 = dktX7_fitting_12 := dk_seg dksX7_fitting_11 22 rfl rfl
theorem dksX7_fitting_13 : cX7_fitting.data.toList.drop 299 = dktX7_fitting_13 := dk_seg dksX7_fitting_12 24 rfl rfl
theorem dksX7_fitting_14 : cX7_fitting.data.toList.drop 321 = dktX7_fitting_14 := dk_seg dksX7_fitting_13 22 rfl rfl
theorem dksX7_fitting_15 : cX7_fitting.data.toList.drop 344 = dktX7_fitting_15 := dk_seg dksX7_fitting_14 23 rfl rfl
theorem dksX7_fitting_16 : cX7_fitting.data.toList.drop 368 = dktX7_fitting_16 := dk_seg dksX7_fitting_15 24 rfl rfl
theorem dX7_fitting_0 : decode cX7_fitting 0 = .ok (.iconst 0, 1) := dk_3 (dk_at dksX7_fitting_0 0 rfl rfl)
theorem dX7_fitting_1 : decode cX7_fitting 1 = .ok (.istore_n 3, 1) := dk_62 (dk_at dksX7_fitting_0 1 rfl rfl)
theorem dX7_fitting_2 : decode cX7_fitting 2 = .ok (.iconst 1, 1) := dk_4 (dk_at dksX7_fitting_0 2 rfl rfl)
theorem dX7_fitting_3 : decode cX7_fitting 3 = .ok (.istore 4, 2) := dk_54 4 (dk_at dksX7_fitting_0 3 rfl rfl)
theorem dX7_fitting_5 : decode cX7_fitting 5 = .ok (.aload_n 0, 1) := dk_42 (dk_at dksX7_fitting_0 5 rfl rfl)
theorem dX7_fitting_6 : decode cX7_fitting 6 = .ok (.iconst 0, 1) := dk_3 (dk_at dksX7_fitting_0 6 rfl rfl)
theorem dX7_fitting_7 : decode cX7_fitting 7 = .ok (.putfield 394, 3) := dk_181 1 138 (dk_at dksX7_fitting_0 7 rfl rfl)
theorem dX7_fitting_10 : decode cX7_fitting 10 = .ok (.iconst 0, 1) := dk_3 (dk_at dksX7_fitting_0 10 rfl rfl)
theorem dX7_fitting_11 : decode cX7_fitting 11 = .ok (.istore 5, 2) := dk_54 5 (dk_at dksX7_fitting_0 11 rfl rfl)
theorem dX7_fitting_13 : decode cX7_fitting 13 = .ok (.iload 5, 2) := dk_21 5 (dk_at dksX7_fitting_0 13 rfl rfl)
theorem dX7_fitting_15 : decode cX7_fitting 15 = .ok (.aload_n 0, 1) := dk_42 (dk_at dksX7_fitting_0 15 rfl rfl)
theorem dX7_fitting_16 : decode cX7_fitting 16 = .ok (.getfield 280, 3) := dk_180 1 24 (dk_at dksX7_fitting_0 16 rfl rfl)
theorem dX7_fitting_19 : decode cX7_fitting 19 = .ok (.getfield 255, 3) := dk_180 0 255 (dk_at dksX7_fitting_0 19 rfl rfl)
theorem dX7_fitting_22 : decode cX7_fitting 22 = .ok (.if_icmp .ge 20, 3) := dk_162 0 20 (dk_at dksX7_fitting_1 0 rfl rfl)
theorem dX7_fitting_25 : decode cX7_fitting 25 = .ok (.iload 4, 2) := dk_21 4 (dk_at dksX7_fitting_1 3 rfl rfl)
theorem dX7_fitting_27 : decode cX7_fitting 27 = .ok (.aload_n 0, 1) := dk_42 (dk_at dksX7_fitting_1 5 rfl rfl)
theorem dX7_fitting_28 : decode cX7_fitting 28 = .ok (.iload 5, 2) := dk_21 5 (dk_at dksX7_fitting_1 6 rfl rfl)
theorem dX7_fitting_30 : decode cX7_fitting 30 = .ok (.invokevirtual 397, 3) := dk_182 1 141 (dk_at dksX7_fitting_1 8 rfl rfl)
theorem dX7_fitting_33 : decode cX7_fitting 33 = .ok (.imul, 1) := dk_104 (dk_at dksX7_fitting_1 11 rfl rfl)
theorem dX7_fitting_34 : decode cX7_fitting 34 = .ok (.istore 4, 2) := dk_54 4 (dk_at dksX7_fitting_1 12 rfl rfl)
theorem dX7_fitting_36 : decode cX7_fitting 36 = .ok (.iinc 5 1, 3) := dk_132 5 1 (dk_at dksX7_fitting_1 14 rfl rfl)
theorem dX7_fitting_39 : decode cX7_fitting 39 = .ok (.goto (-26), 3) := dk_167 255 230 (dk_at dksX7_fitting_1 17 rfl rfl)
theorem dX7_fitting_42 : decode cX7_fitting 42 = .ok (.iconst 0, 1) := dk_3 (dk_at dksX7_fitting_1 20 rfl rfl)
theorem dX7_fitting_43 : decode cX7_fitting 43 = .ok (.istore 5, 2) := dk_54 5 (dk_at dksX7_fitting_1 21 rfl rfl)
theorem dX7_fitting_45 : decode cX7_fitting 45 = .ok (.iload 5, 2) := dk_21 5 (dk_at dksX7_fitting_2 0 rfl rfl)
theorem dX7_fitting_47 : decode cX7_fitting 47 = .ok (.bipush 21, 2) := dk_16 21 (dk_at dksX7_fitting_2 2 rfl rfl)
theorem dX7_fitting_49 : decode cX7_fitting 49 = .ok (.if_icmp .ge 17, 3) := dk_162 0 17 (dk_at dksX7_fitting_2 4 rfl rfl)
theorem dX7_fitting_52 : decode cX7_fitting 52 = .ok (.aload_n 0, 1) := dk_42 (dk_at dksX7_fitting_2 7 rfl rfl)
theorem dX7_fitting_53 : decode cX7_fitting 53 = .ok (.getfield 45, 3) := dk_180 0 45 (dk_at dksX7_fitting_2 8 rfl rfl)
theorem dX7_fitting_56 : decode cX7_fitting 56 = .ok (.iload 5, 2) := dk_21 5 (dk_at dksX7_fitting_2 11 rfl rfl)
theorem dX7_fitting_58 : decode cX7_fitting 58 = .ok (.iconst 0, 1) := dk_3 (dk_at dksX7_fitting_2 13 rfl rfl)
theorem dX7_fitting_59 : decode cX7_fitting 59 = .ok (.iastore, 1) := dk_79 (dk_at dksX7_fitting_2 14 rfl rfl)
theorem dX7_fitting_60 : decode cX7_fitting 60 = .ok (.iinc 5 1, 3) := dk_132 5 1 (dk_at dksX7_fitting_2 15 rfl rfl)
theorem dX7_fitting_63 : decode cX7_fitting 63 = .ok (.goto (-18), 3) := dk_167 255 238 (dk_at dksX7_fitting_2 18 rfl rfl)
theorem dX7_fitting_66 : decode cX7_fitting 66 = .ok (.iconst 0, 1) := dk_3 (dk_at dksX7_fitting_2 21 rfl rfl)
theorem dX7_fitting_67 : decode cX7_fitting 67 = .ok (.istore 5, 2) := dk_54 5 (dk_at dksX7_fitting_2 22 rfl rfl)
theorem dX7_fitting_69 : decode cX7_fitting 69 = .ok (.iload 5, 2) := dk_21 5 (dk_at dksX7_fitting_3 0 rfl rfl)
theorem dX7_fitting_71 : decode cX7_fitting 71 = .ok (.bipush 36, 2) := dk_16 36 (dk_at dksX7_fitting_3 2 rfl rfl)
theorem dX7_fitting_73 : decode cX7_fitting 73 = .ok (.if_icmp .ge 17, 3) := dk_162 0 17 (dk_at dksX7_fitting_3 4 rfl rfl)
theorem dX7_fitting_76 : decode cX7_fitting 76 = .ok (.aload_n 0, 1) := dk_42 (dk_at dksX7_fitting_3 7 rfl rfl)
theorem dX7_fitting_77 : decode cX7_fitting 77 = .ok (.getfield 48, 3) := dk_180 0 48 (dk_at dksX7_fitting_3 8 rfl rfl)
theorem dX7_fitting_80 : decode cX7_fitting 80 = .ok (.iload 5, 2) := dk_21 5 (dk_at dksX7_fitting_3 11 rfl rfl)
theorem dX7_fitting_82 : decode cX7_fitting 82 = .ok (.iconst 0, 1) := dk_3 (dk_at dksX7_fitting_3 13 rfl rfl)
theorem dX7_fitting_83 : decode cX7_fitting 83 = .ok (.iastore, 1) := dk_79 (dk_at dksX7_fitting_3 14 rfl rfl)
theorem dX7_fitting_84 : decode cX7_fitting 84 = .ok (.iinc 5 1, 3) := dk_132 5 1 (dk_at dksX7_fitting_3 15 rfl rfl)
theorem dX7_fitting_87 : decode cX7_fitting 87 = .ok (.goto (-18), 3) := dk_167 255 238 (dk_at dksX7_fitting_3 18 rfl rfl)
theorem dX7_fitting_90 : decode cX7_fitting 90 = .ok (.iconst 0, 1) := dk_3 (dk_at dksX7_fitting_3 21 rfl rfl)
theorem dX7_fitting_91 : decode cX7_fitting 91 = .ok (.istore 5, 2) := dk_54 5 (dk_at dksX7_fitting_3 22 rfl rfl)
theorem dX7_fitting_93 : decode cX7_fitting 93 = .ok (.iload 5, 2) := dk_21 5 (dk_at dksX7_fitting_4 0 rfl rfl)
theorem dX7_fitting_95 : decode cX7_fitting 95 = .ok (.iload 4, 2) := dk_21 4 (dk_at dksX7_fitting_4 2 rfl rfl)
theorem dX7_fitting_97 : decode cX7_fitting 97 = .ok (.if_icmp .ge 271, 3) := dk_162 1 15 (dk_at dksX7_fitting_4 4 rfl rfl)
theorem dX7_fitting_100 : decode cX7_fitting 100 = .ok (.iload 5, 2) := dk_21 5 (dk_at dksX7_fitting_4 7 rfl rfl)
theorem dX7_fitting_102 : decode cX7_fitting 102 = .ok (.istore 6, 2) := dk_54 6 (dk_at dksX7_fitting_4 9 rfl rfl)
theorem dX7_fitting_104 : decode cX7_fitting 104 = .ok (.aload_n 0, 1) := dk_42 (dk_at dksX7_fitting_4 11 rfl rfl)
theorem dX7_fitting_105 : decode cX7_fitting 105 = .ok (.invokevirtual 282, 3) := dk_182 1 26 (dk_at dksX7_fitting_4 12 rfl rfl)
theorem dX7_fitting_108 : decode cX7_fitting 108 = .ok (.aload_n 0, 1) := dk_42 (dk_at dksX7_fitting_4 15 rfl rfl)
theorem dX7_fitting_109 : decode cX7_fitting 109 = .ok (.getfield 280, 3) := dk_180 1 24 (dk_at dksX7_fitting_4 16 rfl rfl)
theorem dX7_fitting_112 : decode cX7_fitting 112 = .ok (.getfield 255, 3) := dk_180 0 255 (dk_at dksX7_fitting_4 19 rfl rfl)
theorem dX7_fitting_115 : decode cX7_fitting 115 = .ok (.iconst 1, 1) := dk_4 (dk_at dksX7_fitting_4 22 rfl rfl)
theorem dX7_fitting_116 : decode cX7_fitting 116 = .ok (.isub, 1) := dk_100 (dk_at dksX7_fitting_4 23 rfl rfl)
theorem dX7_fitting_117 : decode cX7_fitting 117 = .ok (.istore 7, 2) := dk_54 7 (dk_at dksX7_fitting_5 0 rfl rfl)
theorem dX7_fitting_119 : decode cX7_fitting 119 = .ok (.iload 7, 2) := dk_21 7 (dk_at dksX7_fitting_5 2 rfl rfl)
theorem dX7_fitting_121 : decode cX7_fitting 121 = .ok (.ifCond .lt 82, 3) := dk_155 0 82 (dk_at dksX7_fitting_5 4 rfl rfl)
theorem dX7_fitting_124 : decode cX7_fitting 124 = .ok (.aload_n 0, 1) := dk_42 (dk_at dksX7_fitting_5 7 rfl rfl)
theorem dX7_fitting_125 : decode cX7_fitting 125 = .ok (.getfield 42, 3) := dk_180 0 42 (dk_at dksX7_fitting_5 8 rfl rfl)
theorem dX7_fitting_128 : decode cX7_fitting 128 = .ok (.iload 7, 2) := dk_21 7 (dk_at dksX7_fitting_5 11 rfl rfl)
theorem dX7_fitting_130 : decode cX7_fitting 130 = .ok (.iload 6, 2) := dk_21 6 (dk_at dksX7_fitting_5 13 rfl rfl)
theorem dX7_fitting_132 : decode cX7_fitting 132 = .ok (.aload_n 0, 1) := dk_42 (dk_at dksX7_fitting_5 15 rfl rfl)
theorem dX7_fitting_133 : decode cX7_fitting 133 = .ok (.iload 7, 2) := dk_21 7 (dk_at dksX7_fitting_5 16 rfl rfl)
theorem dX7_fitting_135 : decode cX7_fitting 135 = .ok (.invokevirtual 397, 3) := dk_182 1 141 (dk_at dksX7_fitting_5 18 rfl rfl)
theorem dX7_fitting_138 : decode cX7_fitting 138 = .ok (.irem, 1) := dk_112 (dk_at dksX7_fitting_5 21 rfl rfl)
theorem dX7_fitting_139 : decode cX7_fitting 139 = .ok (.iastore, 1) := dk_79 (dk_at dksX7_fitting_5 22 rfl rfl)
theorem dX7_fitting_140 : decode cX7_fitting 140 = .ok (.iload 6, 2) := dk_21 6 (dk_at dksX7_fitting_6 0 rfl rfl)
theorem dX7_fitting_142 : decode cX7_fitting 142 = .ok (.aload_n 0, 1) := dk_42 (dk_at dksX7_fitting_6 2 rfl rfl)
theorem dX7_fitting_143 : decode cX7_fitting 143 = .ok (.iload 7, 2) := dk_21 7 (dk_at dksX7_fitting_6 3 rfl rfl)
theorem dX7_fitting_145 : decode cX7_fitting 145 = .ok (.invokevirtual 397, 3) := dk_182 1 141 (dk_at dksX7_fitting_6 5 rfl rfl)
theorem dX7_fitting_148 : decode cX7_fitting 148 = .ok (.idiv, 1) := dk_108 (dk_at dksX7_fitting_6 8 rfl rfl)
theorem dX7_fitting_149 : decode cX7_fitting 149 = .ok (.istore 6, 2) := dk_54 6 (dk_at dksX7_fitting_6 9 rfl rfl)
theorem dX7_fitting_151 : decode cX7_fitting 151 = .ok (.aload_n 0, 1) := dk_42 (dk_at dksX7_fitting_6 11 rfl rfl)
theorem dX7_fitting_152 : decode cX7_fitting 152 = .ok (.getfield 21, 3) := dk_180 0 21 (dk_at dksX7_fitting_6 12 rfl rfl)
theorem dX7_fitting_155 : decode cX7_fitting 155 = .ok (.bipush 6, 2) := dk_16 6 (dk_at dksX7_fitting_6 15 rfl rfl)
theorem dX7_fitting_157 : decode cX7_fitting 157 = .ok (.bipush 6, 2) := dk_16 6 (dk_at dksX7_fitting_6 17 rfl rfl)
theorem dX7_fitting_159 : decode cX7_fitting 159 = .ok (.aload_n 0, 1) := dk_42 (dk_at dksX7_fitting_6 19 rfl rfl)
theorem dX7_fitting_160 : decode cX7_fitting 160 = .ok (.getfield 280, 3) := dk_180 1 24 (dk_at dksX7_fitting_6 20 rfl rfl)
theorem dX7_fitting_163 : decode cX7_fitting 163 = .ok (.getfield 260, 3) := dk_180 1 4 (dk_at dksX7_fitting_7 0 rfl rfl)
theorem dX7_fitting_166 : decode cX7_fitting 166 = .ok (.iload 7, 2) := dk_21 7 (dk_at dksX7_fitting_7 3 rfl rfl)
theorem dX7_fitting_168 : decode cX7_fitting 168 = .ok (.iaload, 1) := dk_46 (dk_at dksX7_fitting_7 5 rfl rfl)
theorem dX7_fitting_169 : decode cX7_fitting 169 = .ok (.imul, 1) := dk_104 (dk_at dksX7_fitting_7 6 rfl rfl)
theorem dX7_fitting_170 : decode cX7_fitting 170 = .ok (.iadd, 1) := dk_96 (dk_at dksX7_fitting_7 7 rfl rfl)
theorem dX7_fitting_171 : decode cX7_fitting 171 = .ok (.aload_n 0, 1) := dk_42 (dk_at dksX7_fitting_7 8 rfl rfl)
theorem dX7_fitting_172 : decode cX7_fitting 172 = .ok (.getfield 280, 3) := dk_180 1 24 (dk_at dksX7_fitting_7 9 rfl rfl)
theorem dX7_fitting_175 : decode cX7_fitting 175 = .ok (.getfield 263, 3) := dk_180 1 7 (dk_at dksX7_fitting_7 12 rfl rfl)
theorem dX7_fitting_178 : decode cX7_fitting 178 = .ok (.iload 7, 2) := dk_21 7 (dk_at dksX7_fitting_7 15 rfl rfl)
theorem dX7_fitting_180 : decode cX7_fitting 180 = .ok (.iaload, 1) := dk_46 (dk_at dksX7_fitting_7 17 rfl rfl)
theorem dX7_fitting_181 : decode cX7_fitting 181 = .ok (.iadd, 1) := dk_96 (dk_at dksX7_fitting_7 18 rfl rfl)
theorem dX7_fitting_182 : decode cX7_fitting 182 = .ok (.aload_n 0, 1) := dk_42 (dk_at dksX7_fitting_7 19 rfl rfl)
theorem dX7_fitting_183 : decode cX7_fitting 183 = .ok (.iload 7, 2) := dk_21 7 (dk_at dksX7_fitting_7 20 rfl rfl)
theorem dX7_fitting_185 : decode cX7_fitting 185 = .ok (.invokevirtual 391, 3) := dk_182 1 135 (dk_at dksX7_fitting_8 0 rfl rfl)
theorem dX7_fitting_188 : decode cX7_fitting 188 = .ok (.aload_n 0, 1) := dk_42 (dk_at dksX7_fitting_8 3 rfl rfl)
theorem dX7_fitting_189 : decode cX7_fitting 189 = .ok (.getfield 42, 3) := dk_180 0 42 (dk_at dksX7_fitting_8 4 rfl rfl)
theorem dX7_fitting_192 : decode cX7_fitting 192 = .ok (.iload 7, 2) := dk_21 7 (dk_at dksX7_fitting_8 7 rfl rfl)
theorem dX7_fitting_194 : decode cX7_fitting 194 = .ok (.iaload, 1) := dk_46 (dk_at dksX7_fitting_8 9 rfl rfl)
theorem dX7_fitting_195 : decode cX7_fitting 195 = .ok (.iadd, 1) := dk_96 (dk_at dksX7_fitting_8 10 rfl rfl)
theorem dX7_fitting_196 : decode cX7_fitting 196 = .ok (.iastore, 1) := dk_79 (dk_at dksX7_fitting_8 11 rfl rfl)
theorem dX7_fitting_197 : decode cX7_fitting 197 = .ok (.iinc 7 (-1), 3) := dk_132 7 255 (dk_at dksX7_fitting_8 12 rfl rfl)
theorem dX7_fitting_200 : decode cX7_fitting 200 = .ok (.goto (-81), 3) := dk_167 255 175 (dk_at dksX7_fitting_8 15 rfl rfl)
theorem dX7_fitting_203 : decode cX7_fitting 203 = .ok (.aload_n 0, 1) := dk_42 (dk_at dksX7_fitting_8 18 rfl rfl)
theorem dX7_fitting_204 : decode cX7_fitting 204 = .ok (.invokevirtual 400, 3) := dk_182 1 144 (dk_at dksX7_fitting_8 19 rfl rfl)
theorem dX7_fitting_207 : decode cX7_fitting 207 = .ok (.bipush (-2), 2) := dk_16 254 (dk_at dksX7_fitting_8 22 rfl rfl)
theorem dX7_fitting_209 : decode cX7_fitting 209 = .ok (.if_icmp .eq 6, 3) := dk_159 0 6 (dk_at dksX7_fitting_9 0 rfl rfl)
theorem dX7_fitting_212 : decode cX7_fitting 212 = .ok (.goto 150, 3) := dk_167 0 150 (dk_at dksX7_fitting_9 3 rfl rfl)
theorem dX7_fitting_215 : decode cX7_fitting 215 = .ok (.aload_n 0, 1) := dk_42 (dk_at dksX7_fitting_9 6 rfl rfl)
theorem dX7_fitting_216 : decode cX7_fitting 216 = .ok (.getfield 394, 3) := dk_180 1 138 (dk_at dksX7_fitting_9 7 rfl rfl)
theorem dX7_fitting_219 : decode cX7_fitting 219 = .ok (.iload_n 1, 1) := dk_27 (dk_at dksX7_fitting_9 10 rfl rfl)
theorem dX7_fitting_220 : decode cX7_fitting 220 = .ok (.if_icmp .ne 36, 3) := dk_160 0 36 (dk_at dksX7_fitting_9 11 rfl rfl)
theorem dX7_fitting_223 : decode cX7_fitting 223 = .ok (.iconst 1, 1) := dk_4 (dk_at dksX7_fitting_9 14 rfl rfl)
theorem dX7_fitting_224 : decode cX7_fitting 224 = .ok (.istore_n 3, 1) := dk_62 (dk_at dksX7_fitting_9 15 rfl rfl)
theorem dX7_fitting_225 : decode cX7_fitting 225 = .ok (.aload_n 0, 1) := dk_42 (dk_at dksX7_fitting_9 16 rfl rfl)
theorem dX7_fitting_226 : decode cX7_fitting 226 = .ok (.iload_n 2, 1) := dk_28 (dk_at dksX7_fitting_9 17 rfl rfl)
theorem dX7_fitting_227 : decode cX7_fitting 227 = .ok (.aload_n 0, 1) := dk_42 (dk_at dksX7_fitting_9 18 rfl rfl)
theorem dX7_fitting_228 : decode cX7_fitting 228 = .ok (.getfield 280, 3) := dk_180 1 24 (dk_at dksX7_fitting_9 19 rfl rfl)
theorem dX7_fitting_231 : decode cX7_fitting 231 = .ok (.getfield 255, 3) := dk_180 0 255 (dk_at dksX7_fitting_10 0 rfl rfl)
theorem dX7_fitting_234 : decode cX7_fitting 234 = .ok (.if_icmp .ge 18, 3) := dk_162 0 18 (dk_at dksX7_fitting_10 3 rfl rfl)
theorem dX7_fitting_237 : decode cX7_fitting 237 = .ok (.aload_n 0, 1) := dk_42 (dk_at dksX7_fitting_10 6 rfl rfl)
theorem dX7_fitting_238 : decode cX7_fitting 238 = .ok (.iload_n 2, 1) := dk_28 (dk_at dksX7_fitting_10 7 rfl rfl)
theorem dX7_fitting_239 : decode cX7_fitting 239 = .ok (.invokevirtual 391, 3) := dk_182 1 135 (dk_at dksX7_fitting_10 8 rfl rfl)
theorem dX7_fitting_242 : decode cX7_fitting 242 = .ok (.aload_n 0, 1) := dk_42 (dk_at dksX7_fitting_10 11 rfl rfl)
theorem dX7_fitting_243 : decode cX7_fitting 243 = .ok (.getfield 42, 3) := dk_180 0 42 (dk_at dksX7_fitting_10 12 rfl rfl)
theorem dX7_fitting_246 : decode cX7_fitting 246 = .ok (.iload_n 2, 1) := dk_28 (dk_at dksX7_fitting_10 15 rfl rfl)
theorem dX7_fitting_247 : decode cX7_fitting 247 = .ok (.iaload, 1) := dk_46 (dk_at dksX7_fitting_10 16 rfl rfl)
theorem dX7_fitting_248 : decode cX7_fitting 248 = .ok (.iadd, 1) := dk_96 (dk_at dksX7_fitting_10 17 rfl rfl)
theorem dX7_fitting_249 : decode cX7_fitting 249 = .ok (.goto 4, 3) := dk_167 0 4 (dk_at dksX7_fitting_10 18 rfl rfl)
theorem dX7_fitting_252 : decode cX7_fitting 252 = .ok (.iconst 0, 1) := dk_3 (dk_at dksX7_fitting_10 21 rfl rfl)
theorem dX7_fitting_253 : decode cX7_fitting 253 = .ok (.putfield 403, 3) := dk_181 1 147 (dk_at dksX7_fitting_11 0 rfl rfl)
theorem dX7_fitting_256 : decode cX7_fitting 256 = .ok (.aload_n 0, 1) := dk_42 (dk_at dksX7_fitting_11 3 rfl rfl)
theorem dX7_fitting_257 : decode cX7_fitting 257 = .ok (.dup, 1) := dk_89 (dk_at dksX7_fitting_11 4 rfl rfl)
theorem dX7_fitting_258 : decode cX7_fitting 258 = .ok (.getfield 394, 3) := dk_180 1 138 (dk_at dksX7_fitting_11 5 rfl rfl)
theorem dX7_fitting_261 : decode cX7_fitting 261 = .ok (.iconst 1, 1) := dk_4 (dk_at dksX7_fitting_11 8 rfl rfl)
theorem dX7_fitting_262 : decode cX7_fitting 262 = .ok (.iadd, 1) := dk_96 (dk_at dksX7_fitting_11 9 rfl rfl)
theorem dX7_fitting_263 : decode cX7_fitting 263 = .ok (.putfield 394, 3) := dk_181 1 138 (dk_at dksX7_fitting_11 10 rfl rfl)
theorem dX7_fitting_266 : decode cX7_fitting 266 = .ok (.iconst 0, 1) := dk_3 (dk_at dksX7_fitting_11 13 rfl rfl)
theorem dX7_fitting_267 : decode cX7_fitting 267 = .ok (.istore 7, 2) := dk_54 7 (dk_at dksX7_fitting_11 14 rfl rfl)
theorem dX7_fitting_269 : decode cX7_fitting 269 = .ok (.iload 7, 2) := dk_21 7 (dk_at dksX7_fitting_11 16 rfl rfl)
theorem dX7_fitting_271 : decode cX7_fitting 271 = .ok (.aload_n 0, 1) := dk_42 (dk_at dksX7_fitting_11 18 rfl rfl)
theorem dX7_fitting_272 : decode cX7_fitting 272 = .ok (.getfield 280, 3) := dk_180 1 24 (dk_at dksX7_fitting_11 19 rfl rfl)
theorem dX7_fitting_275 : decode cX7_fitting 275 = .ok (.getfield 255, 3) := dk_180 0 255 (dk_at dksX7_fitting_12 0 rfl rfl)
theorem dX7_fitting_278 : decode cX7_fitting 278 = .ok (.if_icmp .ge 31, 3) := dk_162 0 31 (dk_at dksX7_fitting_12 3 rfl rfl)
theorem dX7_fitting_281 : decode cX7_fitting 281 = .ok (.aload_n 0, 1) := dk_42 (dk_at dksX7_fitting_12 6 rfl rfl)
theorem dX7_fitting_282 : decode cX7_fitting 282 = .ok (.getfield 45, 3) := dk_180 0 45 (dk_at dksX7_fitting_12 7 rfl rfl)
theorem dX7_fitting_285 : decode cX7_fitting 285 = .ok (.bipush 7, 2) := dk_16 7 (dk_at dksX7_fitting_12 10 rfl rfl)
theorem dX7_fitting_287 : decode cX7_fitting 287 = .ok (.iload 7, 2) := dk_21 7 (dk_at dksX7_fitting_12 12 rfl rfl)
theorem dX7_fitting_289 : decode cX7_fitting 289 = .ok (.imul, 1) := dk_104 (dk_at dksX7_fitting_12 14 rfl rfl)
theorem dX7_fitting_290 : decode cX7_fitting 290 = .ok (.aload_n 0, 1) := dk_42 (dk_at dksX7_fitting_12 15 rfl rfl)
theorem dX7_fitting_291 : decode cX7_fitting 291 = .ok (.getfield 42, 3) := dk_180 0 42 (dk_at dksX7_fitting_12 16 rfl rfl)
theorem dX7_fitting_294 : decode cX7_fitting 294 = .ok (.iload 7, 2) := dk_21 7 (dk_at dksX7_fitting_12 19 rfl rfl)
theorem dX7_fitting_296 : decode cX7_fitting 296 = .ok (.iaload, 1) := dk_46 (dk_at dksX7_fitting_12 21 rfl rfl)
theorem dX7_fitting_297 : decode cX7_fitting 297 = .ok (.iadd, 1) := dk_96 (dk_at dksX7_fitting_12 22 rfl rfl)
theorem dX7_fitting_298 : decode cX7_fitting 298 = .ok (.dup2, 1) := dk_92 (dk_at dksX7_fitting_12 23 rfl rfl)
theorem dX7_fitting_299 : decode cX7_fitting 299 = .ok (.iaload, 1) := dk_46 (dk_at dksX7_fitting_13 0 rfl rfl)
theorem dX7_fitting_300 : decode cX7_fitting 300 = .ok (.iconst 1, 1) := dk_4 (dk_at dksX7_fitting_13 1 rfl rfl)
theorem dX7_fitting_301 : decode cX7_fitting 301 = .ok (.iadd, 1) := dk_96 (dk_at dksX7_fitting_13 2 rfl rfl)
theorem dX7_fitting_302 : decode cX7_fitting 302 = .ok (.iastore, 1) := dk_79 (dk_at dksX7_fitting_13 3 rfl rfl)
theorem dX7_fitting_303 : decode cX7_fitting 303 = .ok (.iinc 7 1, 3) := dk_132 7 1 (dk_at dksX7_fitting_13 4 rfl rfl)
theorem dX7_fitting_306 : decode cX7_fitting 306 = .ok (.goto (-37), 3) := dk_167 255 219 (dk_at dksX7_fitting_13 7 rfl rfl)
theorem dX7_fitting_309 : decode cX7_fitting 309 = .ok (.iconst 0, 1) := dk_3 (dk_at dksX7_fitting_13 10 rfl rfl)
theorem dX7_fitting_310 : decode cX7_fitting 310 = .ok (.istore 7, 2) := dk_54 7 (dk_at dksX7_fitting_13 11 rfl rfl)
theorem dX7_fitting_312 : decode cX7_fitting 312 = .ok (.iload 7, 2) := dk_21 7 (dk_at dksX7_fitting_13 13 rfl rfl)
theorem dX7_fitting_314 : decode cX7_fitting 314 = .ok (.aload_n 0, 1) := dk_42 (dk_at dksX7_fitting_13 15 rfl rfl)
theorem dX7_fitting_315 : decode cX7_fitting 315 = .ok (.getfield 280, 3) := dk_180 1 24 (dk_at dksX7_fitting_13 16 rfl rfl)
theorem dX7_fitting_318 : decode cX7_fitting 318 = .ok (.getfield 170, 3) := dk_180 0 170 (dk_at dksX7_fitting_13 19 rfl rfl)
theorem dX7_fitting_321 : decode cX7_fitting 321 = .ok (.if_icmp .ge 41, 3) := dk_162 0 41 (dk_at dksX7_fitting_14 0 rfl rfl)
theorem dX7_fitting_324 : decode cX7_fitting 324 = .ok (.aload_n 0, 1) := dk_42 (dk_at dksX7_fitting_14 3 rfl rfl)
theorem dX7_fitting_325 : decode cX7_fitting 325 = .ok (.iload 7, 2) := dk_21 7 (dk_at dksX7_fitting_14 4 rfl rfl)
theorem dX7_fitting_327 : decode cX7_fitting 327 = .ok (.invokevirtual 300, 3) := dk_182 1 44 (dk_at dksX7_fitting_14 6 rfl rfl)
theorem dX7_fitting_330 : decode cX7_fitting 330 = .ok (.bipush (-2), 2) := dk_16 254 (dk_at dksX7_fitting_14 9 rfl rfl)
theorem dX7_fitting_332 : decode cX7_fitting 332 = .ok (.if_icmp .eq 24, 3) := dk_159 0 24 (dk_at dksX7_fitting_14 11 rfl rfl)
theorem dX7_fitting_335 : decode cX7_fitting 335 = .ok (.aload_n 0, 1) := dk_42 (dk_at dksX7_fitting_14 14 rfl rfl)
theorem dX7_fitting_336 : decode cX7_fitting 336 = .ok (.getfield 48, 3) := dk_180 0 48 (dk_at dksX7_fitting_14 15 rfl rfl)
theorem dX7_fitting_339 : decode cX7_fitting 339 = .ok (.bipush 6, 2) := dk_16 6 (dk_at dksX7_fitting_14 18 rfl rfl)
theorem dX7_fitting_341 : decode cX7_fitting 341 = .ok (.aload_n 0, 1) := dk_42 (dk_at dksX7_fitting_14 20 rfl rfl)
theorem dX7_fitting_342 : decode cX7_fitting 342 = .ok (.iload 7, 2) := dk_21 7 (dk_at dksX7_fitting_14 21 rfl rfl)
theorem dX7_fitting_344 : decode cX7_fitting 344 = .ok (.invokevirtual 300, 3) := dk_182 1 44 (dk_at dksX7_fitting_15 0 rfl rfl)
theorem dX7_fitting_347 : decode cX7_fitting 347 = .ok (.imul, 1) := dk_104 (dk_at dksX7_fitting_15 3 rfl rfl)
theorem dX7_fitting_348 : decode cX7_fitting 348 = .ok (.iload 7, 2) := dk_21 7 (dk_at dksX7_fitting_15 4 rfl rfl)
theorem dX7_fitting_350 : decode cX7_fitting 350 = .ok (.iadd, 1) := dk_96 (dk_at dksX7_fitting_15 6 rfl rfl)
theorem dX7_fitting_351 : decode cX7_fitting 351 = .ok (.dup2, 1) := dk_92 (dk_at dksX7_fitting_15 7 rfl rfl)
theorem dX7_fitting_352 : decode cX7_fitting 352 = .ok (.iaload, 1) := dk_46 (dk_at dksX7_fitting_15 8 rfl rfl)
theorem dX7_fitting_353 : decode cX7_fitting 353 = .ok (.iconst 1, 1) := dk_4 (dk_at dksX7_fitting_15 9 rfl rfl)
theorem dX7_fitting_354 : decode cX7_fitting 354 = .ok (.iadd, 1) := dk_96 (dk_at dksX7_fitting_15 10 rfl rfl)
theorem dX7_fitting_355 : decode cX7_fitting 355 = .ok (.iastore, 1) := dk_79 (dk_at dksX7_fitting_15 11 rfl rfl)
theorem dX7_fitting_356 : decode cX7_fitting 356 = .ok (.iinc 7 1, 3) := dk_132 7 1 (dk_at dksX7_fitting_15 12 rfl rfl)
theorem dX7_fitting_359 : decode cX7_fitting 359 = .ok (.goto (-47), 3) := dk_167 255 209 (dk_at dksX7_fitting_15 15 rfl rfl)
theorem dX7_fitting_362 : decode cX7_fitting 362 = .ok (.iinc 5 1, 3) := dk_132 5 1 (dk_at dksX7_fitting_15 18 rfl rfl)
theorem dX7_fitting_365 : decode cX7_fitting 365 = .ok (.goto (-272), 3) := dk_167 254 240 (dk_at dksX7_fitting_15 21 rfl rfl)
theorem dX7_fitting_368 : decode cX7_fitting 368 = .ok (.iload_n 3, 1) := dk_29 (dk_at dksX7_fitting_16 0 rfl rfl)
theorem dX7_fitting_369 : decode cX7_fitting 369 = .ok (.ireturn, 1) := dk_172 (dk_at dksX7_fitting_16 1 rfl rfl)
abbrev cX7_many : ByteArray := prog_14_method_90_code
def yX7_many : MethodName := ⟨RX7, "many", "(I)I"⟩
def dkwX7_many_2 : List UInt8 := [96, 172]
abbrev dktX7_many_2 : List UInt8 := dkwX7_many_2 ++ []
def dkwX7_many_1 : List UInt8 := [180, 1, 7, 27, 46, 96, 46, 42, 180, 1, 24, 180, 1, 10, 27, 46, 96, 42, 27, 182, 1, 135, 100, 4]
abbrev dktX7_many_1 : List UInt8 := dkwX7_many_1 ++ dktX7_many_2
def dkwX7_many_0 : List UInt8 := [42, 180, 1, 24, 180, 0, 242, 16, 6, 42, 180, 1, 24, 180, 1, 4, 27, 46, 104, 42, 180, 1, 24]
abbrev dktX7_many_0 : List UInt8 := dkwX7_many_0 ++ dktX7_many_1
theorem dksX7_many_0 : cX7_many.data.toList.drop 0 = dktX7_many_0 := by decide +kernel
theorem dksX7_many_1 : cX7_many.data.toList.drop 23 = dktX7_many_1 := dk_seg dksX7_many_0 23 rfl rfl
theorem dksX7_many_2 : cX7_many.data.toList.drop 47 = dktX7_many_2 := dk_seg dksX7_many_1 24 rfl rfl
theorem dX7_many_0 : decode cX7_many 0 = .ok (.aload_n 0, 1) := dk_42 (dk_at dksX7_many_0 0 rfl rfl)
theorem dX7_many_1 : decode cX7_many 1 = .ok (.getfield 280, 3) := dk_180 1 24 (dk_at dksX7_many_0 1 rfl rfl)
theorem dX7_many_4 : decode cX7_many 4 = .ok (.getfield 242, 3) := dk_180 0 242 (dk_at dksX7_many_0 4 rfl rfl)
theorem dX7_many_7 : decode cX7_many 7 = .ok (.bipush 6, 2) := dk_16 6 (dk_at dksX7_many_0 7 rfl rfl)
theorem dX7_many_9 : decode cX7_many 9 = .ok (.aload_n 0, 1) := dk_42 (dk_at dksX7_many_0 9 rfl rfl)
theorem dX7_many_10 : decode cX7_many 10 = .ok (.getfield 280, 3) := dk_180 1 24 (dk_at dksX7_many_0 10 rfl rfl)
theorem dX7_many_13 : decode cX7_many 13 = .ok (.getfield 260, 3) := dk_180 1 4 (dk_at dksX7_many_0 13 rfl rfl)
theorem dX7_many_16 : decode cX7_many 16 = .ok (.iload_n 1, 1) := dk_27 (dk_at dksX7_many_0 16 rfl rfl)
theorem dX7_many_17 : decode cX7_many 17 = .ok (.iaload, 1) := dk_46 (dk_at dksX7_many_0 17 rfl rfl)
theorem dX7_many_18 : decode cX7_many 18 = .ok (.imul, 1) := dk_104 (dk_at dksX7_many_0 18 rfl rfl)
theorem dX7_many_19 : decode cX7_many 19 = .ok (.aload_n 0, 1) := dk_42 (dk_at dksX7_many_0 19 rfl rfl)
theorem dX7_many_20 : decode cX7_many 20 = .ok (.getfield 280, 3) := dk_180 1 24 (dk_at dksX7_many_0 20 rfl rfl)
theorem dX7_many_23 : decode cX7_many 23 = .ok (.getfield 263, 3) := dk_180 1 7 (dk_at dksX7_many_1 0 rfl rfl)
theorem dX7_many_26 : decode cX7_many 26 = .ok (.iload_n 1, 1) := dk_27 (dk_at dksX7_many_1 3 rfl rfl)
theorem dX7_many_27 : decode cX7_many 27 = .ok (.iaload, 1) := dk_46 (dk_at dksX7_many_1 4 rfl rfl)
theorem dX7_many_28 : decode cX7_many 28 = .ok (.iadd, 1) := dk_96 (dk_at dksX7_many_1 5 rfl rfl)
theorem dX7_many_29 : decode cX7_many 29 = .ok (.iaload, 1) := dk_46 (dk_at dksX7_many_1 6 rfl rfl)
theorem dX7_many_30 : decode cX7_many 30 = .ok (.aload_n 0, 1) := dk_42 (dk_at dksX7_many_1 7 rfl rfl)
theorem dX7_many_31 : decode cX7_many 31 = .ok (.getfield 280, 3) := dk_180 1 24 (dk_at dksX7_many_1 8 rfl rfl)
theorem dX7_many_34 : decode cX7_many 34 = .ok (.getfield 266, 3) := dk_180 1 10 (dk_at dksX7_many_1 11 rfl rfl)
theorem dX7_many_37 : decode cX7_many 37 = .ok (.iload_n 1, 1) := dk_27 (dk_at dksX7_many_1 14 rfl rfl)
theorem dX7_many_38 : decode cX7_many 38 = .ok (.iaload, 1) := dk_46 (dk_at dksX7_many_1 15 rfl rfl)
theorem dX7_many_39 : decode cX7_many 39 = .ok (.iadd, 1) := dk_96 (dk_at dksX7_many_1 16 rfl rfl)
theorem dX7_many_40 : decode cX7_many 40 = .ok (.aload_n 0, 1) := dk_42 (dk_at dksX7_many_1 17 rfl rfl)
theorem dX7_many_41 : decode cX7_many 41 = .ok (.iload_n 1, 1) := dk_27 (dk_at dksX7_many_1 18 rfl rfl)
theorem dX7_many_42 : decode cX7_many 42 = .ok (.invokevirtual 391, 3) := dk_182 1 135 (dk_at dksX7_many_1 19 rfl rfl)
theorem dX7_many_45 : decode cX7_many 45 = .ok (.isub, 1) := dk_100 (dk_at dksX7_many_1 22 rfl rfl)
theorem dX7_many_46 : decode cX7_many 46 = .ok (.iconst 1, 1) := dk_4 (dk_at dksX7_many_1 23 rfl rfl)
theorem dX7_many_47 : decode cX7_many 47 = .ok (.iadd, 1) := dk_96 (dk_at dksX7_many_2 0 rfl rfl)
theorem dX7_many_48 : decode cX7_many 48 = .ok (.ireturn, 1) := dk_172 (dk_at dksX7_many_2 1 rfl rfl)
abbrev cX7_low : ByteArray := prog_14_method_89_code
def yX7_low : MethodName := ⟨RX7, "low", "(I)I"⟩
def dkwX7_low_2 : List UInt8 := [180, 1, 24, 180, 1, 10, 27, 46, 100, 167, 0, 4, 3, 172]
abbrev dktX7_low_2 : List UInt8 := dkwX7_low_2 ++ []
def dkwX7_low_1 : List UInt8 := [180, 1, 7, 27, 46, 96, 46, 61, 28, 42, 180, 1, 24, 180, 1, 10, 27, 46, 164, 0, 17, 28, 42]
abbrev dktX7_low_1 : List UInt8 := dkwX7_low_1 ++ dktX7_low_2
def dkwX7_low_0 : List UInt8 := [42, 180, 1, 24, 180, 0, 242, 16, 6, 42, 180, 1, 24, 180, 1, 4, 27, 46, 104, 42, 180, 1, 24]
abbrev dktX7_low_0 : List UInt8 := dkwX7_low_0 ++ dktX7_low_1
theorem dksX7_low_0 : cX7_low.data.toList.drop 0 = dktX7_low_0 := by decide +kernel
theorem dksX7_low_1 : cX7_low.data.toList.drop 23 = dktX7_low_1 := dk_seg dksX7_low_0 23 rfl rfl
theorem dksX7_low_2 : cX7_low.data.toList.drop 46 = dktX7_low_2 := dk_seg dksX7_low_1 23 rfl rfl
theorem dX7_low_0 : decode cX7_low 0 = .ok (.aload_n 0, 1) := dk_42 (dk_at dksX7_low_0 0 rfl rfl)
theorem dX7_low_1 : decode cX7_low 1 = .ok (.getfield 280, 3) := dk_180 1 24 (dk_at dksX7_low_0 1 rfl rfl)
theorem dX7_low_4 : decode cX7_low 4 = .ok (.getfield 242, 3) := dk_180 0 242 (dk_at dksX7_low_0 4 rfl rfl)
theorem dX7_low_7 : decode cX7_low 7 = .ok (.bipush 6, 2) := dk_16 6 (dk_at dksX7_low_0 7 rfl rfl)
theorem dX7_low_9 : decode cX7_low 9 = .ok (.aload_n 0, 1) := dk_42 (dk_at dksX7_low_0 9 rfl rfl)
theorem dX7_low_10 : decode cX7_low 10 = .ok (.getfield 280, 3) := dk_180 1 24 (dk_at dksX7_low_0 10 rfl rfl)
theorem dX7_low_13 : decode cX7_low 13 = .ok (.getfield 260, 3) := dk_180 1 4 (dk_at dksX7_low_0 13 rfl rfl)
theorem dX7_low_16 : decode cX7_low 16 = .ok (.iload_n 1, 1) := dk_27 (dk_at dksX7_low_0 16 rfl rfl)
theorem dX7_low_17 : decode cX7_low 17 = .ok (.iaload, 1) := dk_46 (dk_at dksX7_low_0 17 rfl rfl)
theorem dX7_low_18 : decode cX7_low 18 = .ok (.imul, 1) := dk_104 (dk_at dksX7_low_0 18 rfl rfl)
theorem dX7_low_19 : decode cX7_low 19 = .ok (.aload_n 0, 1) := dk_42 (dk_at dksX7_low_0 19 rfl rfl)
theorem dX7_low_20 : decode cX7_low 20 = .ok (.getfield 280, 3) := dk_180 1 24 (dk_at dksX7_low_0 20 rfl rfl)
theorem dX7_low_23 : decode cX7_low 23 = .ok (.getfield 263, 3) := dk_180 1 7 (dk_at dksX7_low_1 0 rfl rfl)
theorem dX7_low_26 : decode cX7_low 26 = .ok (.iload_n 1, 1) := dk_27 (dk_at dksX7_low_1 3 rfl rfl)
theorem dX7_low_27 : decode cX7_low 27 = .ok (.iaload, 1) := dk_46 (dk_at dksX7_low_1 4 rfl rfl)
theorem dX7_low_28 : decode cX7_low 28 = .ok (.iadd, 1) := dk_96 (dk_at dksX7_low_1 5 rfl rfl)
theorem dX7_low_29 : decode cX7_low 29 = .ok (.iaload, 1) := dk_46 (dk_at dksX7_low_1 6 rfl rfl)
theorem dX7_low_30 : decode cX7_low 30 = .ok (.istore_n 2, 1) := dk_61 (dk_at dksX7_low_1 7 rfl rfl)
theorem dX7_low_31 : decode cX7_low 31 = .ok (.iload_n 2, 1) := dk_28 (dk_at dksX7_low_1 8 rfl rfl)
theorem dX7_low_32 : decode cX7_low 32 = .ok (.aload_n 0, 1) := dk_42 (dk_at dksX7_low_1 9 rfl rfl)
theorem dX7_low_33 : decode cX7_low 33 = .ok (.getfield 280, 3) := dk_180 1 24 (dk_at dksX7_low_1 10 rfl rfl)
theorem dX7_low_36 : decode cX7_low 36 = .ok (.getfield 266, 3) := dk_180 1 10 (dk_at dksX7_low_1 13 rfl rfl)
theorem dX7_low_39 : decode cX7_low 39 = .ok (.iload_n 1, 1) := dk_27 (dk_at dksX7_low_1 16 rfl rfl)
theorem dX7_low_40 : decode cX7_low 40 = .ok (.iaload, 1) := dk_46 (dk_at dksX7_low_1 17 rfl rfl)
theorem dX7_low_41 : decode cX7_low 41 = .ok (.if_icmp .le 17, 3) := dk_164 0 17 (dk_at dksX7_low_1 18 rfl rfl)
theorem dX7_low_44 : decode cX7_low 44 = .ok (.iload_n 2, 1) := dk_28 (dk_at dksX7_low_1 21 rfl rfl)
theorem dX7_low_45 : decode cX7_low 45 = .ok (.aload_n 0, 1) := dk_42 (dk_at dksX7_low_1 22 rfl rfl)
theorem dX7_low_46 : decode cX7_low 46 = .ok (.getfield 280, 3) := dk_180 1 24 (dk_at dksX7_low_2 0 rfl rfl)
theorem dX7_low_49 : decode cX7_low 49 = .ok (.getfield 266, 3) := dk_180 1 10 (dk_at dksX7_low_2 3 rfl rfl)
theorem dX7_low_52 : decode cX7_low 52 = .ok (.iload_n 1, 1) := dk_27 (dk_at dksX7_low_2 6 rfl rfl)
theorem dX7_low_53 : decode cX7_low 53 = .ok (.iaload, 1) := dk_46 (dk_at dksX7_low_2 7 rfl rfl)
theorem dX7_low_54 : decode cX7_low 54 = .ok (.isub, 1) := dk_100 (dk_at dksX7_low_2 8 rfl rfl)
theorem dX7_low_55 : decode cX7_low 55 = .ok (.goto 4, 3) := dk_167 0 4 (dk_at dksX7_low_2 9 rfl rfl)
theorem dX7_low_58 : decode cX7_low 58 = .ok (.iconst 0, 1) := dk_3 (dk_at dksX7_low_2 12 rfl rfl)
theorem dX7_low_59 : decode cX7_low 59 = .ok (.ireturn, 1) := dk_172 (dk_at dksX7_low_2 13 rfl rfl)
abbrev cX7_wrong : ByteArray := prog_14_method_91_code
def yX7_wrong : MethodName := ⟨RX7, "wrong", "()I"⟩
def dkwX7_wrong_2 : List UInt8 := [132, 1, 1, 167, 255, 210, 16, 254, 172]
abbrev dktX7_wrong_2 : List UInt8 := dkwX7_wrong_2 ++ []
def dkwX7_wrong_1 : List UInt8 := [159, 0, 22, 42, 27, 182, 1, 44, 42, 180, 1, 24, 180, 1, 12, 27, 46, 159, 0, 5, 27, 172]
abbrev dktX7_wrong_1 : List UInt8 := dkwX7_wrong_1 ++ dktX7_wrong_2
def dkwX7_wrong_0 : List UInt8 := [3, 60, 27, 42, 180, 1, 24, 180, 0, 170, 162, 0, 41, 42, 180, 1, 24, 180, 1, 12, 27, 46, 2]
abbrev dktX7_wrong_0 : List UInt8 := dkwX7_wrong_0 ++ dktX7_wrong_1
theorem dksX7_wrong_0 : cX7_wrong.data.toList.drop 0 = dktX7_wrong_0 := by decide +kernel
theorem dksX7_wrong_1 : cX7_wrong.data.toList.drop 23 = dktX7_wrong_1 := dk_seg dksX7_wrong_0 23 rfl rfl
theorem dksX7_wrong_2 : cX7_wrong.data.toList.drop 45 = dktX7_wrong_2 := dk_seg dksX7_wrong_1 22 rfl rfl
theorem dX7_wrong_0 : decode cX7_wrong 0 = .ok (.iconst 0, 1) := dk_3 (dk_at dksX7_wrong_0 0 rfl rfl)
theorem dX7_wrong_1 : decode cX7_wrong 1 = .ok (.istore_n 1, 1) := dk_60 (dk_at dksX7_wrong_0 1 rfl rfl)
theorem dX7_wrong_2 : decode cX7_wrong 2 = .ok (.iload_n 1, 1) := dk_27 (dk_at dksX7_wrong_0 2 rfl rfl)
theorem dX7_wrong_3 : decode cX7_wrong 3 = .ok (.aload_n 0, 1) := dk_42 (dk_at dksX7_wrong_0 3 rfl rfl)
theorem dX7_wrong_4 : decode cX7_wrong 4 = .ok (.getfield 280, 3) := dk_180 1 24 (dk_at dksX7_wrong_0 4 rfl rfl)
theorem dX7_wrong_7 : decode cX7_wrong 7 = .ok (.getfield 170, 3) := dk_180 0 170 (dk_at dksX7_wrong_0 7 rfl rfl)
theorem dX7_wrong_10 : decode cX7_wrong 10 = .ok (.if_icmp .ge 41, 3) := dk_162 0 41 (dk_at dksX7_wrong_0 10 rfl rfl)
theorem dX7_wrong_13 : decode cX7_wrong 13 = .ok (.aload_n 0, 1) := dk_42 (dk_at dksX7_wrong_0 13 rfl rfl)
theorem dX7_wrong_14 : decode cX7_wrong 14 = .ok (.getfield 280, 3) := dk_180 1 24 (dk_at dksX7_wrong_0 14 rfl rfl)
theorem dX7_wrong_17 : decode cX7_wrong 17 = .ok (.getfield 268, 3) := dk_180 1 12 (dk_at dksX7_wrong_0 17 rfl rfl)
theorem dX7_wrong_20 : decode cX7_wrong 20 = .ok (.iload_n 1, 1) := dk_27 (dk_at dksX7_wrong_0 20 rfl rfl)
theorem dX7_wrong_21 : decode cX7_wrong 21 = .ok (.iaload, 1) := dk_46 (dk_at dksX7_wrong_0 21 rfl rfl)
theorem dX7_wrong_22 : decode cX7_wrong 22 = .ok (.iconst (-1), 1) := dk_2 (dk_at dksX7_wrong_0 22 rfl rfl)
theorem dX7_wrong_23 : decode cX7_wrong 23 = .ok (.if_icmp .eq 22, 3) := dk_159 0 22 (dk_at dksX7_wrong_1 0 rfl rfl)
theorem dX7_wrong_26 : decode cX7_wrong 26 = .ok (.aload_n 0, 1) := dk_42 (dk_at dksX7_wrong_1 3 rfl rfl)
theorem dX7_wrong_27 : decode cX7_wrong 27 = .ok (.iload_n 1, 1) := dk_27 (dk_at dksX7_wrong_1 4 rfl rfl)
theorem dX7_wrong_28 : decode cX7_wrong 28 = .ok (.invokevirtual 300, 3) := dk_182 1 44 (dk_at dksX7_wrong_1 5 rfl rfl)
theorem dX7_wrong_31 : decode cX7_wrong 31 = .ok (.aload_n 0, 1) := dk_42 (dk_at dksX7_wrong_1 8 rfl rfl)
theorem dX7_wrong_32 : decode cX7_wrong 32 = .ok (.getfield 280, 3) := dk_180 1 24 (dk_at dksX7_wrong_1 9 rfl rfl)
theorem dX7_wrong_35 : decode cX7_wrong 35 = .ok (.getfield 268, 3) := dk_180 1 12 (dk_at dksX7_wrong_1 12 rfl rfl)
theorem dX7_wrong_38 : decode cX7_wrong 38 = .ok (.iload_n 1, 1) := dk_27 (dk_at dksX7_wrong_1 15 rfl rfl)
theorem dX7_wrong_39 : decode cX7_wrong 39 = .ok (.iaload, 1) := dk_46 (dk_at dksX7_wrong_1 16 rfl rfl)
theorem dX7_wrong_40 : decode cX7_wrong 40 = .ok (.if_icmp .eq 5, 3) := dk_159 0 5 (dk_at dksX7_wrong_1 17 rfl rfl)
theorem dX7_wrong_43 : decode cX7_wrong 43 = .ok (.iload_n 1, 1) := dk_27 (dk_at dksX7_wrong_1 20 rfl rfl)
theorem dX7_wrong_44 : decode cX7_wrong 44 = .ok (.ireturn, 1) := dk_172 (dk_at dksX7_wrong_1 21 rfl rfl)
theorem dX7_wrong_45 : decode cX7_wrong 45 = .ok (.iinc 1 1, 3) := dk_132 1 1 (dk_at dksX7_wrong_2 0 rfl rfl)
theorem dX7_wrong_48 : decode cX7_wrong 48 = .ok (.goto (-46), 3) := dk_167 255 210 (dk_at dksX7_wrong_2 3 rfl rfl)
theorem dX7_wrong_51 : decode cX7_wrong 51 = .ok (.bipush (-2), 2) := dk_16 254 (dk_at dksX7_wrong_2 6 rfl rfl)
theorem dX7_wrong_53 : decode cX7_wrong 53 = .ok (.ireturn, 1) := dk_172 (dk_at dksX7_wrong_2 8 rfl rfl)
abbrev cX7_fitAt : ByteArray := prog_14_method_94_code
def yX7_fitAt : MethodName := ⟨RX7, "fitAt", "(II)I"⟩
def dkwX7_fitAt_2 : List UInt8 := [42, 42, 180, 1, 147, 182, 0, 61, 167, 0, 8, 42, 4, 182, 0, 57, 172]
abbrev dktX7_fitAt_2 : List UInt8 := dkwX7_fitAt_2 ++ []
def dkwX7_fitAt_1 : List UInt8 := [180, 1, 24, 180, 0, 255, 161, 0, 9, 42, 4, 182, 0, 57, 172, 42, 27, 28, 182, 1, 150, 153, 0, 14]
abbrev dktX7_fitAt_1 : List UInt8 := dkwX7_fitAt_1 ++ dktX7_fitAt_2
def dkwX7_fitAt_0 : List UInt8 := [42, 3, 181, 0, 51, 42, 180, 1, 24, 198, 0, 22, 27, 155, 0, 18, 28, 155, 0, 14, 28, 42]
abbrev dktX7_fitAt_0 : List UInt8 := dkwX7_fitAt_0 ++ dktX7_fitAt_1
theorem dksX7_fitAt_0 : cX7_fitAt.data.toList.drop 0 = dktX7_fitAt_0 := by decide +kernel
theorem dksX7_fitAt_1 : cX7_fitAt.data.toList.drop 22 = dktX7_fitAt_1 := dk_seg dksX7_fitAt_0 22 rfl rfl
theorem dksX7_fitAt_2 : cX7_fitAt.data.toList.drop 46 = dktX7_fitAt_2 := dk_seg dksX7_fitAt_1 24 rfl rfl
theorem dX7_fitAt_0 : decode cX7_fitAt 0 = .ok (.aload_n 0, 1) := dk_42 (dk_at dksX7_fitAt_0 0 rfl rfl)
theorem dX7_fitAt_1 : decode cX7_fitAt 1 = .ok (.iconst 0, 1) := dk_3 (dk_at dksX7_fitAt_0 1 rfl rfl)
theorem dX7_fitAt_2 : decode cX7_fitAt 2 = .ok (.putfield 51, 3) := dk_181 0 51 (dk_at dksX7_fitAt_0 2 rfl rfl)
theorem dX7_fitAt_5 : decode cX7_fitAt 5 = .ok (.aload_n 0, 1) := dk_42 (dk_at dksX7_fitAt_0 5 rfl rfl)
theorem dX7_fitAt_6 : decode cX7_fitAt 6 = .ok (.getfield 280, 3) := dk_180 1 24 (dk_at dksX7_fitAt_0 6 rfl rfl)
theorem dX7_fitAt_9 : decode cX7_fitAt 9 = .ok (.ifnull 22, 3) := dk_198 0 22 (dk_at dksX7_fitAt_0 9 rfl rfl)
theorem dX7_fitAt_12 : decode cX7_fitAt 12 = .ok (.iload_n 1, 1) := dk_27 (dk_at dksX7_fitAt_0 12 rfl rfl)
theorem dX7_fitAt_13 : decode cX7_fitAt 13 = .ok (.ifCond .lt 18, 3) := dk_155 0 18 (dk_at dksX7_fitAt_0 13 rfl rfl)
theorem dX7_fitAt_16 : decode cX7_fitAt 16 = .ok (.iload_n 2, 1) := dk_28 (dk_at dksX7_fitAt_0 16 rfl rfl)
theorem dX7_fitAt_17 : decode cX7_fitAt 17 = .ok (.ifCond .lt 14, 3) := dk_155 0 14 (dk_at dksX7_fitAt_0 17 rfl rfl)
theorem dX7_fitAt_20 : decode cX7_fitAt 20 = .ok (.iload_n 2, 1) := dk_28 (dk_at dksX7_fitAt_0 20 rfl rfl)
theorem dX7_fitAt_21 : decode cX7_fitAt 21 = .ok (.aload_n 0, 1) := dk_42 (dk_at dksX7_fitAt_0 21 rfl rfl)
theorem dX7_fitAt_22 : decode cX7_fitAt 22 = .ok (.getfield 280, 3) := dk_180 1 24 (dk_at dksX7_fitAt_1 0 rfl rfl)
theorem dX7_fitAt_25 : decode cX7_fitAt 25 = .ok (.getfield 255, 3) := dk_180 0 255 (dk_at dksX7_fitAt_1 3 rfl rfl)
theorem dX7_fitAt_28 : decode cX7_fitAt 28 = .ok (.if_icmp .lt 9, 3) := dk_161 0 9 (dk_at dksX7_fitAt_1 6 rfl rfl)
theorem dX7_fitAt_31 : decode cX7_fitAt 31 = .ok (.aload_n 0, 1) := dk_42 (dk_at dksX7_fitAt_1 9 rfl rfl)
theorem dX7_fitAt_32 : decode cX7_fitAt 32 = .ok (.iconst 1, 1) := dk_4 (dk_at dksX7_fitAt_1 10 rfl rfl)
theorem dX7_fitAt_33 : decode cX7_fitAt 33 = .ok (.invokevirtual 57, 3) := dk_182 0 57 (dk_at dksX7_fitAt_1 11 rfl rfl)
theorem dX7_fitAt_36 : decode cX7_fitAt 36 = .ok (.ireturn, 1) := dk_172 (dk_at dksX7_fitAt_1 14 rfl rfl)
theorem dX7_fitAt_37 : decode cX7_fitAt 37 = .ok (.aload_n 0, 1) := dk_42 (dk_at dksX7_fitAt_1 15 rfl rfl)
theorem dX7_fitAt_38 : decode cX7_fitAt 38 = .ok (.iload_n 1, 1) := dk_27 (dk_at dksX7_fitAt_1 16 rfl rfl)
theorem dX7_fitAt_39 : decode cX7_fitAt 39 = .ok (.iload_n 2, 1) := dk_28 (dk_at dksX7_fitAt_1 17 rfl rfl)
theorem dX7_fitAt_40 : decode cX7_fitAt 40 = .ok (.invokevirtual 406, 3) := dk_182 1 150 (dk_at dksX7_fitAt_1 18 rfl rfl)
theorem dX7_fitAt_43 : decode cX7_fitAt 43 = .ok (.ifCond .eq 14, 3) := dk_153 0 14 (dk_at dksX7_fitAt_1 21 rfl rfl)
theorem dX7_fitAt_46 : decode cX7_fitAt 46 = .ok (.aload_n 0, 1) := dk_42 (dk_at dksX7_fitAt_2 0 rfl rfl)
theorem dX7_fitAt_47 : decode cX7_fitAt 47 = .ok (.aload_n 0, 1) := dk_42 (dk_at dksX7_fitAt_2 1 rfl rfl)
theorem dX7_fitAt_48 : decode cX7_fitAt 48 = .ok (.getfield 403, 3) := dk_180 1 147 (dk_at dksX7_fitAt_2 2 rfl rfl)
theorem dX7_fitAt_51 : decode cX7_fitAt 51 = .ok (.invokevirtual 61, 3) := dk_182 0 61 (dk_at dksX7_fitAt_2 5 rfl rfl)
theorem dX7_fitAt_54 : decode cX7_fitAt 54 = .ok (.goto 8, 3) := dk_167 0 8 (dk_at dksX7_fitAt_2 8 rfl rfl)
theorem dX7_fitAt_57 : decode cX7_fitAt 57 = .ok (.aload_n 0, 1) := dk_42 (dk_at dksX7_fitAt_2 11 rfl rfl)
theorem dX7_fitAt_58 : decode cX7_fitAt 58 = .ok (.iconst 1, 1) := dk_4 (dk_at dksX7_fitAt_2 12 rfl rfl)
theorem dX7_fitAt_59 : decode cX7_fitAt 59 = .ok (.invokevirtual 57, 3) := dk_182 0 57 (dk_at dksX7_fitAt_2 13 rfl rfl)
theorem dX7_fitAt_62 : decode cX7_fitAt 62 = .ok (.ireturn, 1) := dk_172 (dk_at dksX7_fitAt_2 16 rfl rfl)
abbrev cX7_heirBy : ByteArray := prog_14_method_95_code
def yX7_heirBy : MethodName := ⟨RX7, "heirBy", "(II)I"⟩
def dkwX7_heirBy_1 : List UInt8 := [182, 1, 150, 87, 42, 42, 180, 0, 48, 16, 6, 27, 104, 28, 96, 46, 182, 0, 61, 172]
abbrev dktX7_heirBy_1 : List UInt8 := dkwX7_heirBy_1 ++ []
def dkwX7_heirBy_0 : List UInt8 := [42, 3, 181, 0, 51, 42, 27, 28, 182, 1, 70, 154, 0, 9, 42, 4, 182, 0, 57, 172, 42, 2, 3]
abbrev dktX7_heirBy_0 : List UInt8 := dkwX7_heirBy_0 ++ dktX7_heirBy_1
theorem dksX7_heirBy_0 : cX7_heirBy.data.toList.drop 0 = dktX7_heirBy_0 := by decide +kernel
theorem dksX7_heirBy_1 : cX7_heirBy.data.toList.drop 23 = dktX7_heirBy_1 := dk_seg dksX7_heirBy_0 23 rfl rfl
theorem dX7_heirBy_0 : decode cX7_heirBy 0 = .ok (.aload_n 0, 1) := dk_42 (dk_at dksX7_heirBy_0 0 rfl rfl)
theorem dX7_heirBy_1 : decode cX7_heirBy 1 = .ok (.iconst 0, 1) := dk_3 (dk_at dksX7_heirBy_0 1 rfl rfl)
theorem dX7_heirBy_2 : decode cX7_heirBy 2 = .ok (.putfield 51, 3) := dk_181 0 51 (dk_at dksX7_heirBy_0 2 rfl rfl)
theorem dX7_heirBy_5 : decode cX7_heirBy 5 = .ok (.aload_n 0, 1) := dk_42 (dk_at dksX7_heirBy_0 5 rfl rfl)
theorem dX7_heirBy_6 : decode cX7_heirBy 6 = .ok (.iload_n 1, 1) := dk_27 (dk_at dksX7_heirBy_0 6 rfl rfl)
theorem dX7_heirBy_7 : decode cX7_heirBy 7 = .ok (.iload_n 2, 1) := dk_28 (dk_at dksX7_heirBy_0 7 rfl rfl)
theorem dX7_heirBy_8 : decode cX7_heirBy 8 = .ok (.invokevirtual 326, 3) := dk_182 1 70 (dk_at dksX7_heirBy_0 8 rfl rfl)
theorem dX7_heirBy_11 : decode cX7_heirBy 11 = .ok (.ifCond .ne 9, 3) := dk_154 0 9 (dk_at dksX7_heirBy_0 11 rfl rfl)
theorem dX7_heirBy_14 : decode cX7_heirBy 14 = .ok (.aload_n 0, 1) := dk_42 (dk_at dksX7_heirBy_0 14 rfl rfl)
theorem dX7_heirBy_15 : decode cX7_heirBy 15 = .ok (.iconst 1, 1) := dk_4 (dk_at dksX7_heirBy_0 15 rfl rfl)
theorem dX7_heirBy_16 : decode cX7_heirBy 16 = .ok (.invokevirtual 57, 3) := dk_182 0 57 (dk_at dksX7_heirBy_0 16 rfl rfl)
theorem dX7_heirBy_19 : decode cX7_heirBy 19 = .ok (.ireturn, 1) := dk_172 (dk_at dksX7_heirBy_0 19 rfl rfl)
theorem dX7_heirBy_20 : decode cX7_heirBy 20 = .ok (.aload_n 0, 1) := dk_42 (dk_at dksX7_heirBy_0 20 rfl rfl)
theorem dX7_heirBy_21 : decode cX7_heirBy 21 = .ok (.iconst (-1), 1) := dk_2 (dk_at dksX7_heirBy_0 21 rfl rfl)
theorem dX7_heirBy_22 : decode cX7_heirBy 22 = .ok (.iconst 0, 1) := dk_3 (dk_at dksX7_heirBy_0 22 rfl rfl)
theorem dX7_heirBy_23 : decode cX7_heirBy 23 = .ok (.invokevirtual 406, 3) := dk_182 1 150 (dk_at dksX7_heirBy_1 0 rfl rfl)
theorem dX7_heirBy_26 : decode cX7_heirBy 26 = .ok (.pop, 1) := dk_87 (dk_at dksX7_heirBy_1 3 rfl rfl)
theorem dX7_heirBy_27 : decode cX7_heirBy 27 = .ok (.aload_n 0, 1) := dk_42 (dk_at dksX7_heirBy_1 4 rfl rfl)
theorem dX7_heirBy_28 : decode cX7_heirBy 28 = .ok (.aload_n 0, 1) := dk_42 (dk_at dksX7_heirBy_1 5 rfl rfl)
theorem dX7_heirBy_29 : decode cX7_heirBy 29 = .ok (.getfield 48, 3) := dk_180 0 48 (dk_at dksX7_heirBy_1 6 rfl rfl)
theorem dX7_heirBy_32 : decode cX7_heirBy 32 = .ok (.bipush 6, 2) := dk_16 6 (dk_at dksX7_heirBy_1 9 rfl rfl)
theorem dX7_heirBy_34 : decode cX7_heirBy 34 = .ok (.iload_n 1, 1) := dk_27 (dk_at dksX7_heirBy_1 11 rfl rfl)
theorem dX7_heirBy_35 : decode cX7_heirBy 35 = .ok (.imul, 1) := dk_104 (dk_at dksX7_heirBy_1 12 rfl rfl)
theorem dX7_heirBy_36 : decode cX7_heirBy 36 = .ok (.iload_n 2, 1) := dk_28 (dk_at dksX7_heirBy_1 13 rfl rfl)
theorem dX7_heirBy_37 : decode cX7_heirBy 37 = .ok (.iadd, 1) := dk_96 (dk_at dksX7_heirBy_1 14 rfl rfl)
theorem dX7_heirBy_38 : decode cX7_heirBy 38 = .ok (.iaload, 1) := dk_46 (dk_at dksX7_heirBy_1 15 rfl rfl)
theorem dX7_heirBy_39 : decode cX7_heirBy 39 = .ok (.invokevirtual 61, 3) := dk_182 0 61 (dk_at dksX7_heirBy_1 16 rfl rfl)
theorem dX7_heirBy_42 : decode cX7_heirBy 42 = .ok (.ireturn, 1) := dk_172 (dk_at dksX7_heirBy_1 19 rfl rfl)
abbrev cX7_look : ByteArray := prog_14_method_97_code
def yX7_look : MethodName := ⟨RX7, "look", "()I"⟩
def dkwX7_look_1 : List UInt8 := [182, 1, 156, 182, 0, 61, 172]
abbrev dktX7_look_1 : List UInt8 := dkwX7_look_1 ++ []
def dkwX7_look_0 : List UInt8 := [42, 3, 181, 0, 51, 42, 180, 1, 24, 199, 0, 11, 42, 4, 182, 0, 57, 167, 0, 11, 42, 42]
abbrev dktX7_look_0 : List UInt8 := dkwX7_look_0 ++ dktX7_look_1
theorem dksX7_look_0 : cX7_look.data.toList.drop 0 = dktX7_look_0 := by decide +kernel
theorem dksX7_look_1 : cX7_look.data.toList.drop 22 = dktX7_look_1 := dk_seg dksX7_look_0 22 rfl rfl
theorem dX7_look_0 : decode cX7_look 0 = .ok (.aload_n 0, 1) := dk_42 (dk_at dksX7_look_0 0 rfl rfl)
theorem dX7_look_1 : decode cX7_look 1 = .ok (.iconst 0, 1) := dk_3 (dk_at dksX7_look_0 1 rfl rfl)
theorem dX7_look_2 : decode cX7_look 2 = .ok (.putfield 51, 3) := dk_181 0 51 (dk_at dksX7_look_0 2 rfl rfl)
theorem dX7_look_5 : decode cX7_look 5 = .ok (.aload_n 0, 1) := dk_42 (dk_at dksX7_look_0 5 rfl rfl)
theorem dX7_look_6 : decode cX7_look 6 = .ok (.getfield 280, 3) := dk_180 1 24 (dk_at dksX7_look_0 6 rfl rfl)
theorem dX7_look_9 : decode cX7_look 9 = .ok (.ifnonnull 11, 3) := dk_199 0 11 (dk_at dksX7_look_0 9 rfl rfl)
theorem dX7_look_12 : decode cX7_look 12 = .ok (.aload_n 0, 1) := dk_42 (dk_at dksX7_look_0 12 rfl rfl)
theorem dX7_look_13 : decode cX7_look 13 = .ok (.iconst 1, 1) := dk_4 (dk_at dksX7_look_0 13 rfl rfl)
theorem dX7_look_14 : decode cX7_look 14 = .ok (.invokevirtual 57, 3) := dk_182 0 57 (dk_at dksX7_look_0 14 rfl rfl)
theorem dX7_look_17 : decode cX7_look 17 = .ok (.goto 11, 3) := dk_167 0 11 (dk_at dksX7_look_0 17 rfl rfl)
theorem dX7_look_20 : decode cX7_look 20 = .ok (.aload_n 0, 1) := dk_42 (dk_at dksX7_look_0 20 rfl rfl)
theorem dX7_look_21 : decode cX7_look 21 = .ok (.aload_n 0, 1) := dk_42 (dk_at dksX7_look_0 21 rfl rfl)
theorem dX7_look_22 : decode cX7_look 22 = .ok (.invokevirtual 412, 3) := dk_182 1 156 (dk_at dksX7_look_1 0 rfl rfl)
theorem dX7_look_25 : decode cX7_look 25 = .ok (.invokevirtual 61, 3) := dk_182 0 61 (dk_at dksX7_look_1 3 rfl rfl)
theorem dX7_look_28 : decode cX7_look 28 = .ok (.ireturn, 1) := dk_172 (dk_at dksX7_look_1 6 rfl rfl)
abbrev cX7_looks : ByteArray := prog_14_method_96_code
def yX7_looks : MethodName := ⟨RX7, "looks", "()I"⟩
def dkwX7_looks_4 : List UInt8 := [180, 1, 153, 161, 0, 6, 167, 0, 10, 28, 60, 42, 29, 181, 1, 153, 132, 2, 1, 167, 255, 164, 27, 172]
abbrev dktX7_looks_4 : List UInt8 := dkwX7_looks_4 ++ []
def dkwX7_looks_3 : List UInt8 := [16, 7, 28, 104, 21, 4, 96, 46, 62, 132, 4, 1, 167, 255, 217, 27, 16, 254, 159, 0, 14, 29, 42]
abbrev dktX7_looks_3 : List UInt8 := dkwX7_looks_3 ++ dktX7_looks_4
def dkwX7_looks_2 : List UInt8 := [162, 0, 38, 42, 180, 0, 45, 16, 7, 28, 104, 21, 4, 96, 46, 29, 164, 0, 16, 42, 180, 0, 45]
abbrev dktX7_looks_2 : List UInt8 := dkwX7_looks_2 ++ dktX7_looks_3
def dkwX7_looks_1 : List UInt8 := [180, 0, 255, 162, 0, 87, 42, 180, 1, 138, 158, 0, 80, 3, 62, 3, 54, 4, 21, 4, 16, 7]
abbrev dktX7_looks_1 : List UInt8 := dkwX7_looks_1 ++ dktX7_looks_2
def dkwX7_looks_0 : List UInt8 := [42, 2, 3, 182, 1, 150, 87, 16, 254, 60, 42, 16, 254, 181, 1, 153, 3, 61, 28, 42, 180, 1, 24]
abbrev dktX7_looks_0 : List UInt8 := dkwX7_looks_0 ++ dktX7_looks_1
theorem dksX7_looks_0 : cX7_looks.data.toList.drop 0 = dktX7_looks_0 := by decide +kernel
theorem dksX7_looks_1 : cX7_looks.data.toList.drop 23 = dktX7_looks_1 := dk_seg dksX7_looks_0 23 rfl rfl
theorem dksX7_looks_2 : cX7_looks.data.toList.drop 45 = dktX7_looks_2 := dk_seg dksX7_looks_1 22 rfl rfl
theorem dksX7_looks_3 : cX7_looks.data.toList.drop 68 = dktX7_looks_3 := dk_seg dksX7_looks_2 23 rfl rfl
theorem dksX7_looks_4 : cX7_looks.data.toList.drop 91 = dktX7_looks_4 := dk_seg dksX7_looks_3 23 rfl rfl
theorem dX7_looks_0 : decode cX7_looks 0 = .ok (.aload_n 0, 1) := dk_42 (dk_at dksX7_looks_0 0 rfl rfl)
theorem dX7_looks_1 : decode cX7_looks 1 = .ok (.iconst (-1), 1) := dk_2 (dk_at dksX7_looks_0 1 rfl rfl)
theorem dX7_looks_2 : decode cX7_looks 2 = .ok (.iconst 0, 1) := dk_3 (dk_at dksX7_looks_0 2 rfl rfl)
theorem dX7_looks_3 : decode cX7_looks 3 = .ok (.invokevirtual 406, 3) := dk_182 1 150 (dk_at dksX7_looks_0 3 rfl rfl)
theorem dX7_looks_6 : decode cX7_looks 6 = .ok (.pop, 1) := dk_87 (dk_at dksX7_looks_0 6 rfl rfl)
theorem dX7_looks_7 : decode cX7_looks 7 = .ok (.bipush (-2), 2) := dk_16 254 (dk_at dksX7_looks_0 7 rfl rfl)
theorem dX7_looks_9 : decode cX7_looks 9 = .ok (.istore_n 1, 1) := dk_60 (dk_at dksX7_looks_0 9 rfl rfl)
theorem dX7_looks_10 : decode cX7_looks 10 = .ok (.aload_n 0, 1) := dk_42 (dk_at dksX7_looks_0 10 rfl rfl)
theorem dX7_looks_11 : decode cX7_looks 11 = .ok (.bipush (-2), 2) := dk_16 254 (dk_at dksX7_looks_0 11 rfl rfl)
theorem dX7_looks_13 : decode cX7_looks 13 = .ok (.putfield 409, 3) := dk_181 1 153 (dk_at dksX7_looks_0 13 rfl rfl)
theorem dX7_looks_16 : decode cX7_looks 16 = .ok (.iconst 0, 1) := dk_3 (dk_at dksX7_looks_0 16 rfl rfl)
theorem dX7_looks_17 : decode cX7_looks 17 = .ok (.istore_n 2, 1) := dk_61 (dk_at dksX7_looks_0 17 rfl rfl)
theorem dX7_looks_18 : decode cX7_looks 18 = .ok (.iload_n 2, 1) := dk_28 (dk_at dksX7_looks_0 18 rfl rfl)
theorem dX7_looks_19 : decode cX7_looks 19 = .ok (.aload_n 0, 1) := dk_42 (dk_at dksX7_looks_0 19 rfl rfl)
theorem dX7_looks_20 : decode cX7_looks 20 = .ok (.getfield 280, 3) := dk_180 1 24 (dk_at dksX7_looks_0 20 rfl rfl)
theorem dX7_looks_23 : decode cX7_looks 23 = .ok (.getfield 255, 3) := dk_180 0 255 (dk_at dksX7_looks_1 0 rfl rfl)
theorem dX7_looks_26 : decode cX7_looks 26 = .ok (.if_icmp .ge 87, 3) := dk_162 0 87 (dk_at dksX7_looks_1 3 rfl rfl)
theorem dX7_looks_29 : decode cX7_looks 29 = .ok (.aload_n 0, 1) := dk_42 (dk_at dksX7_looks_1 6 rfl rfl)
theorem dX7_looks_30 : decode cX7_looks 30 = .ok (.getfield 394, 3) := dk_180 1 138 (dk_at dksX7_looks_1 7 rfl rfl)
theorem dX7_looks_33 : decode cX7_looks 33 = .ok (.ifCond .le 80, 3) := dk_158 0 80 (dk_at dksX7_looks_1 10 rfl rfl)
theorem dX7_looks_36 : decode cX7_looks 36 = .ok (.iconst 0, 1) := dk_3 (dk_at dksX7_looks_1 13 rfl rfl)
theorem dX7_looks_37 : decode cX7_looks 37 = .ok (.istore_n 3, 1) := dk_62 (dk_at dksX7_looks_1 14 rfl rfl)
theorem dX7_looks_38 : decode cX7_looks 38 = .ok (.iconst 0, 1) := dk_3 (dk_at dksX7_looks_1 15 rfl rfl)
theorem dX7_looks_39 : decode cX7_looks 39 = .ok (.istore 4, 2) := dk_54 4 (dk_at dksX7_looks_1 16 rfl rfl)
theorem dX7_looks_41 : decode cX7_looks 41 = .ok (.iload 4, 2) := dk_21 4 (dk_at dksX7_looks_1 18 rfl rfl)
theorem dX7_looks_43 : decode cX7_looks 43 = .ok (.bipush 7, 2) := dk_16 7 (dk_at dksX7_looks_1 20 rfl rfl)
theorem dX7_looks_45 : decode cX7_looks 45 = .ok (.if_icmp .ge 38, 3) := dk_162 0 38 (dk_at dksX7_looks_2 0 rfl rfl)
theorem dX7_looks_48 : decode cX7_looks 48 = .ok (.aload_n 0, 1) := dk_42 (dk_at dksX7_looks_2 3 rfl rfl)
theorem dX7_looks_49 : decode cX7_looks 49 = .ok (.getfield 45, 3) := dk_180 0 45 (dk_at dksX7_looks_2 4 rfl rfl)
theorem dX7_looks_52 : decode cX7_looks 52 = .ok (.bipush 7, 2) := dk_16 7 (dk_at dksX7_looks_2 7 rfl rfl)
theorem dX7_looks_54 : decode cX7_looks 54 = .ok (.iload_n 2, 1) := dk_28 (dk_at dksX7_looks_2 9 rfl rfl)
theorem dX7_looks_55 : decode cX7_looks 55 = .ok (.imul, 1) := dk_104 (dk_at dksX7_looks_2 10 rfl rfl)
theorem dX7_looks_56 : decode cX7_looks 56 = .ok (.iload 4, 2) := dk_21 4 (dk_at dksX7_looks_2 11 rfl rfl)
theorem dX7_looks_58 : decode cX7_looks 58 = .ok (.iadd, 1) := dk_96 (dk_at dksX7_looks_2 13 rfl rfl)
theorem dX7_looks_59 : decode cX7_looks 59 = .ok (.iaload, 1) := dk_46 (dk_at dksX7_looks_2 14 rfl rfl)
theorem dX7_looks_60 : decode cX7_looks 60 = .ok (.iload_n 3, 1) := dk_29 (dk_at dksX7_looks_2 15 rfl rfl)
theorem dX7_looks_61 : decode cX7_looks 61 = .ok (.if_icmp .le 16, 3) := dk_164 0 16 (dk_at dksX7_looks_2 16 rfl rfl)
theorem dX7_looks_64 : decode cX7_looks 64 = .ok (.aload_n 0, 1) := dk_42 (dk_at dksX7_looks_2 19 rfl rfl)
theorem dX7_looks_65 : decode cX7_looks 65 = .ok (.getfield 45, 3) := dk_180 0 45 (dk_at dksX7_looks_2 20 rfl rfl)
theorem dX7_looks_68 : decode cX7_looks 68 = .ok (.bipush 7, 2) := dk_16 7 (dk_at dksX7_looks_3 0 rfl rfl)
theorem dX7_looks_70 : decode cX7_looks 70 = .ok (.iload_n 2, 1) := dk_28 (dk_at dksX7_looks_3 2 rfl rfl)
theorem dX7_looks_71 : decode cX7_looks 71 = .ok (.imul, 1) := dk_104 (dk_at dksX7_looks_3 3 rfl rfl)
theorem dX7_looks_72 : decode cX7_looks 72 = .ok (.iload 4, 2) := dk_21 4 (dk_at dksX7_looks_3 4 rfl rfl)
theorem dX7_looks_74 : decode cX7_looks 74 = .ok (.iadd, 1) := dk_96 (dk_at dksX7_looks_3 6 rfl rfl)
theorem dX7_looks_75 : decode cX7_looks 75 = .ok (.iaload, 1) := dk_46 (dk_at dksX7_looks_3 7 rfl rfl)
theorem dX7_looks_76 : decode cX7_looks 76 = .ok (.istore_n 3, 1) := dk_62 (dk_at dksX7_looks_3 8 rfl rfl)
theorem dX7_looks_77 : decode cX7_looks 77 = .ok (.iinc 4 1, 3) := dk_132 4 1 (dk_at dksX7_looks_3 9 rfl rfl)
theorem dX7_looks_80 : decode cX7_looks 80 = .ok (.goto (-39), 3) := dk_167 255 217 (dk_at dksX7_looks_3 12 rfl rfl)
theorem dX7_looks_83 : decode cX7_looks 83 = .ok (.iload_n 1, 1) := dk_27 (dk_at dksX7_looks_3 15 rfl rfl)
theorem dX7_looks_84 : decode cX7_looks 84 = .ok (.bipush (-2), 2) := dk_16 254 (dk_at dksX7_looks_3 16 rfl rfl)
theorem dX7_looks_86 : decode cX7_looks 86 = .ok (.if_icmp .eq 14, 3) := dk_159 0 14 (dk_at dksX7_looks_3 18 rfl rfl)
theorem dX7_looks_89 : decode cX7_looks 89 = .ok (.iload_n 3, 1) := dk_29 (dk_at dksX7_looks_3 21 rfl rfl)
theorem dX7_looks_90 : decode cX7_looks 90 = .ok (.aload_n 0, 1) := dk_42 (dk_at dksX7_looks_3 22 rfl rfl)
theorem dX7_looks_91 : decode cX7_looks 91 = .ok (.getfield 409, 3) := dk_180 1 153 (dk_at dksX7_looks_4 0 rfl rfl)
theorem dX7_looks_94 : decode cX7_looks 94 = .ok (.if_icmp .lt 6, 3) := dk_161 0 6 (dk_at dksX7_looks_4 3 rfl rfl)
theorem dX7_looks_97 : decode cX7_looks 97 = .ok (.goto 10, 3) := dk_167 0 10 (dk_at dksX7_looks_4 6 rfl rfl)
theorem dX7_looks_100 : decode cX7_looks 100 = .ok (.iload_n 2, 1) := dk_28 (dk_at dksX7_looks_4 9 rfl rfl)
theorem dX7_looks_101 : decode cX7_looks 101 = .ok (.istore_n 1, 1) := dk_60 (dk_at dksX7_looks_4 10 rfl rfl)
theorem dX7_looks_102 : decode cX7_looks 102 = .ok (.aload_n 0, 1) := dk_42 (dk_at dksX7_looks_4 11 rfl rfl)
theorem dX7_looks_103 : decode cX7_looks 103 = .ok (.iload_n 3, 1) := dk_29 (dk_at dksX7_looks_4 12 rfl rfl)
theorem dX7_looks_104 : decode cX7_looks 104 = .ok (.putfield 409, 3) := dk_181 1 153 (dk_at dksX7_looks_4 13 rfl rfl)
theorem dX7_looks_107 : decode cX7_looks 107 = .ok (.iinc 2 1, 3) := dk_132 2 1 (dk_at dksX7_looks_4 16 rfl rfl)
theorem dX7_looks_110 : decode cX7_looks 110 = .ok (.goto (-92), 3) := dk_167 255 164 (dk_at dksX7_looks_4 19 rfl rfl)
theorem dX7_looks_113 : decode cX7_looks 113 = .ok (.iload_n 1, 1) := dk_27 (dk_at dksX7_looks_4 22 rfl rfl)
theorem dX7_looks_114 : decode cX7_looks 114 = .ok (.ireturn, 1) := dk_172 (dk_at dksX7_looks_4 23 rfl rfl)
abbrev cX7_lookLeaves : ByteArray := prog_14_method_98_code
def yX7_lookLeaves : MethodName := ⟨RX7, "lookLeaves", "()I"⟩
def dkwX7_lookLeaves_1 : List UInt8 := [42, 180, 1, 153, 182, 0, 61, 172]
abbrev dktX7_lookLeaves_1 : List UInt8 := dkwX7_lookLeaves_1 ++ []
def dkwX7_lookLeaves_0 : List UInt8 := [42, 3, 181, 0, 51, 42, 180, 1, 24, 199, 0, 9, 42, 4, 182, 0, 57, 172, 42, 182, 1, 156, 87, 42]
abbrev dktX7_lookLeaves_0 : List UInt8 := dkwX7_lookLeaves_0 ++ dktX7_lookLeaves_1
theorem dksX7_lookLeaves_0 : cX7_lookLeaves.data.toList.drop 0 = dktX7_lookLeaves_0 := by decide +kernel
theorem dksX7_lookLeaves_1 : cX7_lookLeaves.data.toList.drop 24 = dktX7_lookLeaves_1 := dk_seg dksX7_lookLeaves_0 24 rfl rfl
theorem dX7_lookLeaves_0 : decode cX7_lookLeaves 0 = .ok (.aload_n 0, 1) := dk_42 (dk_at dksX7_lookLeaves_0 0 rfl rfl)
theorem dX7_lookLeaves_1 : decode cX7_lookLeaves 1 = .ok (.iconst 0, 1) := dk_3 (dk_at dksX7_lookLeaves_0 1 rfl rfl)
theorem dX7_lookLeaves_2 : decode cX7_lookLeaves 2 = .ok (.putfield 51, 3) := dk_181 0 51 (dk_at dksX7_lookLeaves_0 2 rfl rfl)
theorem dX7_lookLeaves_5 : decode cX7_lookLeaves 5 = .ok (.aload_n 0, 1) := dk_42 (dk_at dksX7_lookLeaves_0 5 rfl rfl)
theorem dX7_lookLeaves_6 : decode cX7_lookLeaves 6 = .ok (.getfield 280, 3) := dk_180 1 24 (dk_at dksX7_lookLeaves_0 6 rfl rfl)
theorem dX7_lookLeaves_9 : decode cX7_lookLeaves 9 = .ok (.ifnonnull 9, 3) := dk_199 0 9 (dk_at dksX7_lookLeaves_0 9 rfl rfl)
theorem dX7_lookLeaves_12 : decode cX7_lookLeaves 12 = .ok (.aload_n 0, 1) := dk_42 (dk_at dksX7_lookLeaves_0 12 rfl rfl)
theorem dX7_lookLeaves_13 : decode cX7_lookLeaves 13 = .ok (.iconst 1, 1) := dk_4 (dk_at dksX7_lookLeaves_0 13 rfl rfl)
theorem dX7_lookLeaves_14 : decode cX7_lookLeaves 14 = .ok (.invokevirtual 57, 3) := dk_182 0 57 (dk_at dksX7_lookLeaves_0 14 rfl rfl)
theorem dX7_lookLeaves_17 : decode cX7_lookLeaves 17 = .ok (.ireturn, 1) := dk_172 (dk_at dksX7_lookLeaves_0 17 rfl rfl)
theorem dX7_lookLeaves_18 : decode cX7_lookLeaves 18 = .ok (.aload_n 0, 1) := dk_42 (dk_at dksX7_lookLeaves_0 18 rfl rfl)
theorem dX7_lookLeaves_19 : decode cX7_lookLeaves 19 = .ok (.invokevirtual 412, 3) := dk_182 1 156 (dk_at dksX7_lookLeaves_0 19 rfl rfl)
theorem dX7_lookLeaves_22 : decode cX7_lookLeaves 22 = .ok (.pop, 1) := dk_87 (dk_at dksX7_lookLeaves_0 22 rfl rfl)
theorem dX7_lookLeaves_23 : decode cX7_lookLeaves 23 = .ok (.aload_n 0, 1) := dk_42 (dk_at dksX7_lookLeaves_0 23 rfl rfl)
theorem dX7_lookLeaves_24 : decode cX7_lookLeaves 24 = .ok (.aload_n 0, 1) := dk_42 (dk_at dksX7_lookLeaves_1 0 rfl rfl)
theorem dX7_lookLeaves_25 : decode cX7_lookLeaves 25 = .ok (.getfield 409, 3) := dk_180 1 153 (dk_at dksX7_lookLeaves_1 1 rfl rfl)
theorem dX7_lookLeaves_28 : decode cX7_lookLeaves 28 = .ok (.invokevirtual 61, 3) := dk_182 0 61 (dk_at dksX7_lookLeaves_1 4 rfl rfl)
theorem dX7_lookLeaves_31 : decode cX7_lookLeaves 31 = .ok (.ireturn, 1) := dk_172 (dk_at dksX7_lookLeaves_1 7 rfl rfl)
abbrev cX7_judge : ByteArray := prog_14_method_99_code
def yX7_judge : MethodName := ⟨RX7, "judge", "()I"⟩
def dkwX7_judge_1 : List UInt8 := [182, 1, 144, 182, 0, 61, 172]
abbrev dktX7_judge_1 : List UInt8 := dkwX7_judge_1 ++ []
def dkwX7_judge_0 : List UInt8 := [42, 3, 181, 0, 51, 42, 180, 1, 24, 199, 0, 9, 42, 4, 182, 0, 57, 172, 42, 182, 1, 26, 42, 42]
abbrev dktX7_judge_0 : List UInt8 := dkwX7_judge_0 ++ dktX7_judge_1
theorem dksX7_judge_0 : cX7_judge.data.toList.drop 0 = dktX7_judge_0 := by decide +kernel
theorem dksX7_judge_1 : cX7_judge.data.toList.drop 24 = dktX7_judge_1 := dk_seg dksX7_judge_0 24 rfl rfl
theorem dX7_judge_0 : decode cX7_judge 0 = .ok (.aload_n 0, 1) := dk_42 (dk_at dksX7_judge_0 0 rfl rfl)
theorem dX7_judge_1 : decode cX7_judge 1 = .ok (.iconst 0, 1) := dk_3 (dk_at dksX7_judge_0 1 rfl rfl)
theorem dX7_judge_2 : decode cX7_judge 2 = .ok (.putfield 51, 3) := dk_181 0 51 (dk_at dksX7_judge_0 2 rfl rfl)
theorem dX7_judge_5 : decode cX7_judge 5 = .ok (.aload_n 0, 1) := dk_42 (dk_at dksX7_judge_0 5 rfl rfl)
theorem dX7_judge_6 : decode cX7_judge 6 = .ok (.getfield 280, 3) := dk_180 1 24 (dk_at dksX7_judge_0 6 rfl rfl)
theorem dX7_judge_9 : decode cX7_judge 9 = .ok (.ifnonnull 9, 3) := dk_199 0 9 (dk_at dksX7_judge_0 9 rfl rfl)
theorem dX7_judge_12 : decode cX7_judge 12 = .ok (.aload_n 0, 1) := dk_42 (dk_at dksX7_judge_0 12 rfl rfl)
theorem dX7_judge_13 : decode cX7_judge 13 = .ok (.iconst 1, 1) := dk_4 (dk_at dksX7_judge_0 13 rfl rfl)
theorem dX7_judge_14 : decode cX7_judge 14 = .ok (.invokevirtual 57, 3) := dk_182 0 57 (dk_at dksX7_judge_0 14 rfl rfl)
theorem dX7_judge_17 : decode cX7_judge 17 = .ok (.ireturn, 1) := dk_172 (dk_at dksX7_judge_0 17 rfl rfl)
theorem dX7_judge_18 : decode cX7_judge 18 = .ok (.aload_n 0, 1) := dk_42 (dk_at dksX7_judge_0 18 rfl rfl)
theorem dX7_judge_19 : decode cX7_judge 19 = .ok (.invokevirtual 282, 3) := dk_182 1 26 (dk_at dksX7_judge_0 19 rfl rfl)
theorem dX7_judge_22 : decode cX7_judge 22 = .ok (.aload_n 0, 1) := dk_42 (dk_at dksX7_judge_0 22 rfl rfl)
theorem dX7_judge_23 : decode cX7_judge 23 = .ok (.aload_n 0, 1) := dk_42 (dk_at dksX7_judge_0 23 rfl rfl)
theorem dX7_judge_24 : decode cX7_judge 24 = .ok (.invokevirtual 400, 3) := dk_182 1 144 (dk_at dksX7_judge_1 0 rfl rfl)
theorem dX7_judge_27 : decode cX7_judge 27 = .ok (.invokevirtual 61, 3) := dk_182 0 61 (dk_at dksX7_judge_1 3 rfl rfl)
theorem dX7_judge_30 : decode cX7_judge 30 = .ok (.ireturn, 1) := dk_172 (dk_at dksX7_judge_1 6 rfl rfl)
abbrev cX7_begs : ByteArray := prog_14_method_103_code
def yX7_begs : MethodName := ⟨RX7, "begs", "(IZZZ)I"⟩
def dkwX7_begs_2 : List UInt8 := [182, 0, 61, 172]
abbrev dktX7_begs_2 : List UInt8 := dkwX7_begs_2 ++ []
def dkwX7_begs_1 : List UInt8 := [167, 0, 26, 42, 21, 4, 153, 0, 11, 28, 29, 184, 1, 165, 167, 0, 9, 27, 28, 29, 184, 1, 169]
abbrev dktX7_begs_1 : List UInt8 := dkwX7_begs_1 ++ dktX7_begs_2
def dkwX7_begs_0 : List UInt8 := [42, 3, 181, 0, 51, 42, 27, 182, 1, 159, 54, 5, 21, 5, 158, 0, 12, 42, 21, 5, 182, 1, 162]
abbrev dktX7_begs_0 : List UInt8 := dkwX7_begs_0 ++ dktX7_begs_1
theorem dksX7_begs_0 : cX7_begs.data.toList.drop 0 = dktX7_begs_0 := by decide +kernel
theorem dksX7_begs_1 : cX7_begs.data.toList.drop 23 = dktX7_begs_1 := dk_seg dksX7_begs_0 23 rfl rfl
theorem dksX7_begs_2 : cX7_begs.data.toList.drop 46 = dktX7_begs_2 := dk_seg dksX7_begs_1 23 rfl rfl
theorem dX7_begs_0 : decode cX7_begs 0 = .ok (.aload_n 0, 1) := dk_42 (dk_at dksX7_begs_0 0 rfl rfl)
theorem dX7_begs_1 : decode cX7_begs 1 = .ok (.iconst 0, 1) := dk_3 (dk_at dksX7_begs_0 1 rfl rfl)
theorem dX7_begs_2 : decode cX7_begs 2 = .ok (.putfield 51, 3) := dk_181 0 51 (dk_at dksX7_begs_0 2 rfl rfl)
theorem dX7_begs_5 : decode cX7_begs 5 = .ok (.aload_n 0, 1) := dk_42 (dk_at dksX7_begs_0 5 rfl rfl)
theorem dX7_begs_6 : decode cX7_begs 6 = .ok (.iload_n 1, 1) := dk_27 (dk_at dksX7_begs_0 6 rfl rfl)
theorem dX7_begs_7 : decode cX7_begs 7 = .ok (.invokevirtual 415, 3) := dk_182 1 159 (dk_at dksX7_begs_0 7 rfl rfl)
theorem dX7_begs_10 : decode cX7_begs 10 = .ok (.istore 5, 2) := dk_54 5 (dk_at dksX7_begs_0 10 rfl rfl)
theorem dX7_begs_12 : decode cX7_begs 12 = .ok (.iload 5, 2) := dk_21 5 (dk_at dksX7_begs_0 12 rfl rfl)
theorem dX7_begs_14 : decode cX7_begs 14 = .ok (.ifCond .le 12, 3) := dk_158 0 12 (dk_at dksX7_begs_0 14 rfl rfl)
theorem dX7_begs_17 : decode cX7_begs 17 = .ok (.aload_n 0, 1) := dk_42 (dk_at dksX7_begs_0 17 rfl rfl)
theorem dX7_begs_18 : decode cX7_begs 18 = .ok (.iload 5, 2) := dk_21 5 (dk_at dksX7_begs_0 18 rfl rfl)
theorem dX7_begs_20 : decode cX7_begs 20 = .ok (.invokevirtual 418, 3) := dk_182 1 162 (dk_at dksX7_begs_0 20 rfl rfl)
theorem dX7_begs_23 : decode cX7_begs 23 = .ok (.goto 26, 3) := dk_167 0 26 (dk_at dksX7_begs_1 0 rfl rfl)
theorem dX7_begs_26 : decode cX7_begs 26 = .ok (.aload_n 0, 1) := dk_42 (dk_at dksX7_begs_1 3 rfl rfl)
theorem dX7_begs_27 : decode cX7_begs 27 = .ok (.iload 4, 2) := dk_21 4 (dk_at dksX7_begs_1 4 rfl rfl)
theorem dX7_begs_29 : decode cX7_begs 29 = .ok (.ifCond .eq 11, 3) := dk_153 0 11 (dk_at dksX7_begs_1 6 rfl rfl)
theorem dX7_begs_32 : decode cX7_begs 32 = .ok (.iload_n 2, 1) := dk_28 (dk_at dksX7_begs_1 9 rfl rfl)
theorem dX7_begs_33 : decode cX7_begs 33 = .ok (.iload_n 3, 1) := dk_29 (dk_at dksX7_begs_1 10 rfl rfl)
theorem dX7_begs_34 : decode cX7_begs 34 = .ok (.invokestatic 421, 3) := dk_184 1 165 (dk_at dksX7_begs_1 11 rfl rfl)
theorem dX7_begs_37 : decode cX7_begs 37 = .ok (.goto 9, 3) := dk_167 0 9 (dk_at dksX7_begs_1 14 rfl rfl)
theorem dX7_begs_40 : decode cX7_begs 40 = .ok (.iload_n 1, 1) := dk_27 (dk_at dksX7_begs_1 17 rfl rfl)
theorem dX7_begs_41 : decode cX7_begs 41 = .ok (.iload_n 2, 1) := dk_28 (dk_at dksX7_begs_1 18 rfl rfl)
theorem dX7_begs_42 : decode cX7_begs 42 = .ok (.iload_n 3, 1) := dk_29 (dk_at dksX7_begs_1 19 rfl rfl)
theorem dX7_begs_43 : decode cX7_begs 43 = .ok (.invokestatic 425, 3) := dk_184 1 169 (dk_at dksX7_begs_1 20 rfl rfl)
theorem dX7_begs_46 : decode cX7_begs 46 = .ok (.invokevirtual 61, 3) := dk_182 0 61 (dk_at dksX7_begs_2 0 rfl rfl)
theorem dX7_begs_49 : decode cX7_begs 49 = .ok (.ireturn, 1) := dk_172 (dk_at dksX7_begs_2 3 rfl rfl)
abbrev cX7_refusesShame : ByteArray := prog_14_method_102_code
def yX7_refusesShame : MethodName := ⟨RX7, "refusesShame", "(I)I"⟩
def dkwX7_refusesShame_1 : List UInt8 := [167, 0, 4, 5, 172]
abbrev dktX7_refusesShame_1 : List UInt8 := dkwX7_refusesShame_1 ++ []
def dkwX7_refusesShame_0 : List UInt8 := [42, 180, 1, 24, 199, 0, 7, 4, 167, 0, 18, 27, 3, 16, 9, 184, 0, 130, 153, 0, 7, 3]
abbrev dktX7_refusesShame_0 : List UInt8 := dkwX7_refusesShame_0 ++ dktX7_refusesShame_1
theorem dksX7_refusesShame_0 : cX7_refusesShame.data.toList.drop 0 = dktX7_refusesShame_0 := by decide +kernel
theorem dksX7_refusesShame_1 : cX7_refusesShame.data.toList.drop 22 = dktX7_refusesShame_1 := dk_seg dksX7_refusesShame_0 22 rfl rfl
theorem dX7_refusesShame_0 : decode cX7_refusesShame 0 = .ok (.aload_n 0, 1) := dk_42 (dk_at dksX7_refusesShame_0 0 rfl rfl)
theorem dX7_refusesShame_1 : decode cX7_refusesShame 1 = .ok (.getfield 280, 3) := dk_180 1 24 (dk_at dksX7_refusesShame_0 1 rfl rfl)
theorem dX7_refusesShame_4 : decode cX7_refusesShame 4 = .ok (.ifnonnull 7, 3) := dk_199 0 7 (dk_at dksX7_refusesShame_0 4 rfl rfl)
theorem dX7_refusesShame_7 : decode cX7_refusesShame 7 = .ok (.iconst 1, 1) := dk_4 (dk_at dksX7_refusesShame_0 7 rfl rfl)
theorem dX7_refusesShame_8 : decode cX7_refusesShame 8 = .ok (.goto 18, 3) := dk_167 0 18 (dk_at dksX7_refusesShame_0 8 rfl rfl)
theorem dX7_refusesShame_11 : decode cX7_refusesShame 11 = .ok (.iload_n 1, 1) := dk_27 (dk_at dksX7_refusesShame_0 11 rfl rfl)
theorem dX7_refusesShame_12 : decode cX7_refusesShame 12 = .ok (.iconst 0, 1) := dk_3 (dk_at dksX7_refusesShame_0 12 rfl rfl)
theorem dX7_refusesShame_13 : decode cX7_refusesShame 13 = .ok (.bipush 9, 2) := dk_16 9 (dk_at dksX7_refusesShame_0 13 rfl rfl)
theorem dX7_refusesShame_15 : decode cX7_refusesShame 15 = .ok (.invokestatic 130, 3) := dk_184 0 130 (dk_at dksX7_refusesShame_0 15 rfl rfl)
theorem dX7_refusesShame_18 : decode cX7_refusesShame 18 = .ok (.ifCond .eq 7, 3) := dk_153 0 7 (dk_at dksX7_refusesShame_0 18 rfl rfl)
theorem dX7_refusesShame_21 : decode cX7_refusesShame 21 = .ok (.iconst 0, 1) := dk_3 (dk_at dksX7_refusesShame_0 21 rfl rfl)
theorem dX7_refusesShame_22 : decode cX7_refusesShame 22 = .ok (.goto 4, 3) := dk_167 0 4 (dk_at dksX7_refusesShame_1 0 rfl rfl)
theorem dX7_refusesShame_25 : decode cX7_refusesShame 25 = .ok (.iconst 2, 1) := dk_5 (dk_at dksX7_refusesShame_1 3 rfl rfl)
theorem dX7_refusesShame_26 : decode cX7_refusesShame 26 = .ok (.ireturn, 1) := dk_172 (dk_at dksX7_refusesShame_1 4 rfl rfl)
abbrev cX7_lost : ByteArray := prog_14_method_4_code
def yX7_lost : MethodName := ⟨RX7, "lost", "(I)I"⟩
def dkwX7_lost_0 : List UInt8 := [42, 27, 182, 0, 57, 87, 16, 156, 172]
abbrev dktX7_lost_0 : List UInt8 := dkwX7_lost_0 ++ []
theorem dksX7_lost_0 : cX7_lost.data.toList.drop 0 = dktX7_lost_0 := by decide +kernel
theorem dX7_lost_0 : decode cX7_lost 0 = .ok (.aload_n 0, 1) := dk_42 (dk_at dksX7_lost_0 0 rfl rfl)
theorem dX7_lost_1 : decode cX7_lost 1 = .ok (.iload_n 1, 1) := dk_27 (dk_at dksX7_lost_0 1 rfl rfl)
theorem dX7_lost_2 : decode cX7_lost 2 = .ok (.invokevirtual 57, 3) := dk_182 0 57 (dk_at dksX7_lost_0 2 rfl rfl)
theorem dX7_lost_5 : decode cX7_lost 5 = .ok (.pop, 1) := dk_87 (dk_at dksX7_lost_0 5 rfl rfl)
theorem dX7_lost_6 : decode cX7_lost 6 = .ok (.bipush (-100), 2) := dk_16 156 (dk_at dksX7_lost_0 6 rfl rfl)
theorem dX7_lost_8 : decode cX7_lost 8 = .ok (.ireturn, 1) := dk_172 (dk_at dksX7_lost_0 8 rfl rfl)
abbrev cX7_beggar : ByteArray := prog_14_method_101_code
def yX7_beggar : MethodName := ⟨RX7, "beggar", "(ZZ)I"⟩
def dkwX7_beggar_0 : List UInt8 := [27, 153, 0, 15, 26, 153, 0, 7, 7, 167, 0, 8, 2, 167, 0, 4, 3, 172]
abbrev dktX7_beggar_0 : List UInt8 := dkwX7_beggar_0 ++ []
theorem dksX7_beggar_0 : cX7_beggar.data.toList.drop 0 = dktX7_beggar_0 := by decide +kernel
theorem dX7_beggar_0 : decode cX7_beggar 0 = .ok (.iload_n 1, 1) := dk_27 (dk_at dksX7_beggar_0 0 rfl rfl)
theorem dX7_beggar_1 : decode cX7_beggar 1 = .ok (.ifCond .eq 15, 3) := dk_153 0 15 (dk_at dksX7_beggar_0 1 rfl rfl)
theorem dX7_beggar_4 : decode cX7_beggar 4 = .ok (.iload_n 0, 1) := dk_26 (dk_at dksX7_beggar_0 4 rfl rfl)
theorem dX7_beggar_5 : decode cX7_beggar 5 = .ok (.ifCond .eq 7, 3) := dk_153 0 7 (dk_at dksX7_beggar_0 5 rfl rfl)
theorem dX7_beggar_8 : decode cX7_beggar 8 = .ok (.iconst 4, 1) := dk_7 (dk_at dksX7_beggar_0 8 rfl rfl)
theorem dX7_beggar_9 : decode cX7_beggar 9 = .ok (.goto 8, 3) := dk_167 0 8 (dk_at dksX7_beggar_0 9 rfl rfl)
theorem dX7_beggar_12 : decode cX7_beggar 12 = .ok (.iconst (-1), 1) := dk_2 (dk_at dksX7_beggar_0 12 rfl rfl)
theorem dX7_beggar_13 : decode cX7_beggar 13 = .ok (.goto 4, 3) := dk_167 0 4 (dk_at dksX7_beggar_0 13 rfl rfl)
theorem dX7_beggar_16 : decode cX7_beggar 16 = .ok (.iconst 0, 1) := dk_3 (dk_at dksX7_beggar_0 16 rfl rfl)
theorem dX7_beggar_17 : decode cX7_beggar 17 = .ok (.ireturn, 1) := dk_172 (dk_at dksX7_beggar_0 17 rfl rfl)
abbrev cX7_rich : ByteArray := prog_14_method_100_code
def yX7_rich : MethodName := ⟨RX7, "rich", "(IZZ)I"⟩
def dkwX7_rich_1 : List UInt8 := [167, 0, 4, 3, 172]
abbrev dktX7_rich_1 : List UInt8 := dkwX7_rich_1 ++ []
def dkwX7_rich_0 : List UInt8 := [27, 153, 0, 16, 28, 153, 0, 8, 16, 254, 167, 0, 17, 4, 167, 0, 13, 28, 153, 0, 8, 26, 116]
abbrev dktX7_rich_0 : List UInt8 := dkwX7_rich_0 ++ dktX7_rich_1
theorem dksX7_rich_0 : cX7_rich.data.toList.drop 0 = dktX7_rich_0 := by decide +kernel
theorem dksX7_rich_1 : cX7_rich.data.toList.drop 23 = dktX7_rich_1 := dk_seg dksX7_rich_0 23 rfl rfl
theorem dX7_rich_0 : decode cX7_rich 0 = .ok (.iload_n 1, 1) := dk_27 (dk_at dksX7_rich_0 0 rfl rfl)
theorem dX7_rich_1 : decode cX7_rich 1 = .ok (.ifCond .eq 16, 3) := dk_153 0 16 (dk_at dksX7_rich_0 1 rfl rfl)
theorem dX7_rich_4 : decode cX7_rich 4 = .ok (.iload_n 2, 1) := dk_28 (dk_at dksX7_rich_0 4 rfl rfl)
theorem dX7_rich_5 : decode cX7_rich 5 = .ok (.ifCond .eq 8, 3) := dk_153 0 8 (dk_at dksX7_rich_0 5 rfl rfl)
theorem dX7_rich_8 : decode cX7_rich 8 = .ok (.bipush (-2), 2) := dk_16 254 (dk_at dksX7_rich_0 8 rfl rfl)
theorem dX7_rich_10 : decode cX7_rich 10 = .ok (.goto 17, 3) := dk_167 0 17 (dk_at dksX7_rich_0 10 rfl rfl)
theorem dX7_rich_13 : decode cX7_rich 13 = .ok (.iconst 1, 1) := dk_4 (dk_at dksX7_rich_0 13 rfl rfl)
theorem dX7_rich_14 : decode cX7_rich 14 = .ok (.goto 13, 3) := dk_167 0 13 (dk_at dksX7_rich_0 14 rfl rfl)
theorem dX7_rich_17 : decode cX7_rich 17 = .ok (.iload_n 2, 1) := dk_28 (dk_at dksX7_rich_0 17 rfl rfl)
theorem dX7_rich_18 : decode cX7_rich 18 = .ok (.ifCond .eq 8, 3) := dk_153 0 8 (dk_at dksX7_rich_0 18 rfl rfl)
theorem dX7_rich_21 : decode cX7_rich 21 = .ok (.iload_n 0, 1) := dk_26 (dk_at dksX7_rich_0 21 rfl rfl)
theorem dX7_rich_22 : decode cX7_rich 22 = .ok (.ineg, 1) := dk_116 (dk_at dksX7_rich_0 22 rfl rfl)
theorem dX7_rich_23 : decode cX7_rich 23 = .ok (.goto 4, 3) := dk_167 0 4 (dk_at dksX7_rich_1 0 rfl rfl)
theorem dX7_rich_26 : decode cX7_rich 26 = .ok (.iconst 0, 1) := dk_3 (dk_at dksX7_rich_1 3 rfl rfl)
theorem dX7_rich_27 : decode cX7_rich 27 = .ok (.ireturn, 1) := dk_172 (dk_at dksX7_rich_1 4 rfl rfl)
abbrev cX7_rests : ByteArray := prog_14_method_105_code
def yX7_rests : MethodName := ⟨RX7, "rests", "(I)I"⟩
def dkwX7_rests_2 : List UInt8 := [62, 132, 4, 1, 167, 255, 230, 42, 29, 182, 0, 61, 172]
abbrev dktX7_rests_2 : List UInt8 := dkwX7_rests_2 ++ []
def dkwX7_rests_1 : List UInt8 := [54, 4, 21, 4, 7, 162, 0, 26, 29, 27, 21, 4, 184, 1, 173, 153, 0, 7, 4, 167, 0, 4, 3, 96]
abbrev dktX7_rests_1 : List UInt8 := dkwX7_rests_1 ++ dktX7_rests_2
def dkwX7_rests_0 : List UInt8 := [42, 3, 181, 0, 51, 42, 27, 182, 1, 159, 61, 28, 158, 0, 9, 42, 28, 182, 0, 57, 172, 3, 62, 3]
abbrev dktX7_rests_0 : List UInt8 := dkwX7_rests_0 ++ dktX7_rests_1
theorem dksX7_rests_0 : cX7_rests.data.toList.drop 0 = dktX7_rests_0 := by decide +kernel
theorem dksX7_rests_1 : cX7_rests.data.toList.drop 24 = dktX7_rests_1 := dk_seg dksX7_rests_0 24 rfl rfl
theorem dksX7_rests_2 : cX7_rests.data.toList.drop 48 = dktX7_rests_2 := dk_seg dksX7_rests_1 24 rfl rfl
theorem dX7_rests_0 : decode cX7_rests 0 = .ok (.aload_n 0, 1) := dk_42 (dk_at dksX7_rests_0 0 rfl rfl)
theorem dX7_rests_1 : decode cX7_rests 1 = .ok (.iconst 0, 1) := dk_3 (dk_at dksX7_rests_0 1 rfl rfl)
theorem dX7_rests_2 : decode cX7_rests 2 = .ok (.putfield 51, 3) := dk_181 0 51 (dk_at dksX7_rests_0 2 rfl rfl)
theorem dX7_rests_5 : decode cX7_rests 5 = .ok (.aload_n 0, 1) := dk_42 (dk_at dksX7_rests_0 5 rfl rfl)
theorem dX7_rests_6 : decode cX7_rests 6 = .ok (.iload_n 1, 1) := dk_27 (dk_at dksX7_rests_0 6 rfl rfl)
theorem dX7_rests_7 : decode cX7_rests 7 = .ok (.invokevirtual 415, 3) := dk_182 1 159 (dk_at dksX7_rests_0 7 rfl rfl)
theorem dX7_rests_10 : decode cX7_rests 10 = .ok (.istore_n 2, 1) := dk_61 (dk_at dksX7_rests_0 10 rfl rfl)
theorem dX7_rests_11 : decode cX7_rests 11 = .ok (.iload_n 2, 1) := dk_28 (dk_at dksX7_rests_0 11 rfl rfl)
theorem dX7_rests_12 : decode cX7_rests 12 = .ok (.ifCond .le 9, 3) := dk_158 0 9 (dk_at dksX7_rests_0 12 rfl rfl)
theorem dX7_rests_15 : decode cX7_rests 15 = .ok (.aload_n 0, 1) := dk_42 (dk_at dksX7_rests_0 15 rfl rfl)
theorem dX7_rests_16 : decode cX7_rests 16 = .ok (.iload_n 2, 1) := dk_28 (dk_at dksX7_rests_0 16 rfl rfl)
theorem dX7_rests_17 : decode cX7_rests 17 = .ok (.invokevirtual 57, 3) := dk_182 0 57 (dk_at dksX7_rests_0 17 rfl rfl)
theorem dX7_rests_20 : decode cX7_rests 20 = .ok (.ireturn, 1) := dk_172 (dk_at dksX7_rests_0 20 rfl rfl)
theorem dX7_rests_21 : decode cX7_rests 21 = .ok (.iconst 0, 1) := dk_3 (dk_at dksX7_rests_0 21 rfl rfl)
theorem dX7_rests_22 : decode cX7_rests 22 = .ok (.istore_n 3, 1) := dk_62 (dk_at dksX7_rests_0 22 rfl rfl)
theorem dX7_rests_23 : decode cX7_rests 23 = .ok (.iconst 0, 1) := dk_3 (dk_at dksX7_rests_0 23 rfl rfl)
theorem dX7_rests_24 : decode cX7_rests 24 = .ok (.istore 4, 2) := dk_54 4 (dk_at dksX7_rests_1 0 rfl rfl)
theorem dX7_rests_26 : decode cX7_rests 26 = .ok (.iload 4, 2) := dk_21 4 (dk_at dksX7_rests_1 2 rfl rfl)
theorem dX7_rests_28 : decode cX7_rests 28 = .ok (.iconst 4, 1) := dk_7 (dk_at dksX7_rests_1 4 rfl rfl)
theorem dX7_rests_29 : decode cX7_rests 29 = .ok (.if_icmp .ge 26, 3) := dk_162 0 26 (dk_at dksX7_rests_1 5 rfl rfl)
theorem dX7_rests_32 : decode cX7_rests 32 = .ok (.iload_n 3, 1) := dk_29 (dk_at dksX7_rests_1 8 rfl rfl)
theorem dX7_rests_33 : decode cX7_rests 33 = .ok (.iload_n 1, 1) := dk_27 (dk_at dksX7_rests_1 9 rfl rfl)
theorem dX7_rests_34 : decode cX7_rests 34 = .ok (.iload 4, 2) := dk_21 4 (dk_at dksX7_rests_1 10 rfl rfl)
theorem dX7_rests_36 : decode cX7_rests 36 = .ok (.invokestatic 429, 3) := dk_184 1 173 (dk_at dksX7_rests_1 12 rfl rfl)
theorem dX7_rests_39 : decode cX7_rests 39 = .ok (.ifCond .eq 7, 3) := dk_153 0 7 (dk_at dksX7_rests_1 15 rfl rfl)
theorem dX7_rests_42 : decode cX7_rests 42 = .ok (.iconst 1, 1) := dk_4 (dk_at dksX7_rests_1 18 rfl rfl)
theorem dX7_rests_43 : decode cX7_rests 43 = .ok (.goto 4, 3) := dk_167 0 4 (dk_at dksX7_rests_1 19 rfl rfl)
theorem dX7_rests_46 : decode cX7_rests 46 = .ok (.iconst 0, 1) := dk_3 (dk_at dksX7_rests_1 22 rfl rfl)
theorem dX7_rests_47 : decode cX7_rests 47 = .ok (.iadd, 1) := dk_96 (dk_at dksX7_rests_1 23 rfl rfl)
theorem dX7_rests_48 : decode cX7_rests 48 = .ok (.istore_n 3, 1) := dk_62 (dk_at dksX7_rests_2 0 rfl rfl)
theorem dX7_rests_49 : decode cX7_rests 49 = .ok (.iinc 4 1, 3) := dk_132 4 1 (dk_at dksX7_rests_2 1 rfl rfl)
theorem dX7_rests_52 : decode cX7_rests 52 = .ok (.goto (-26), 3) := dk_167 255 230 (dk_at dksX7_rests_2 4 rfl rfl)
theorem dX7_rests_55 : decode cX7_rests 55 = .ok (.aload_n 0, 1) := dk_42 (dk_at dksX7_rests_2 7 rfl rfl)
theorem dX7_rests_56 : decode cX7_rests 56 = .ok (.iload_n 3, 1) := dk_29 (dk_at dksX7_rests_2 8 rfl rfl)
theorem dX7_rests_57 : decode cX7_rests 57 = .ok (.invokevirtual 61, 3) := dk_182 0 61 (dk_at dksX7_rests_2 9 rfl rfl)
theorem dX7_rests_60 : decode cX7_rests 60 = .ok (.ireturn, 1) := dk_172 (dk_at dksX7_rests_2 12 rfl rfl)
abbrev cX7_isRest : ByteArray := prog_14_method_104_code
def yX7_isRest : MethodName := ⟨RX7, "isRest", "(II)Z"⟩
def dkwX7_isRest_3 : List UInt8 := [3, 172]
abbrev dktX7_isRest_3 : List UInt8 := dkwX7_isRest_3 ++ []
def dkwX7_isRest_2 : List UInt8 := [29, 154, 0, 7, 4, 167, 0, 4, 3, 184, 1, 165, 28, 29, 184, 1, 165, 163, 0, 7, 4, 167, 0, 4]
abbrev dktX7_isRest_2 : List UInt8 := dkwX7_isRest_2 ++ dktX7_isRest_3
def dkwX7_isRest_1 : List UInt8 := [26, 28, 154, 0, 7, 4, 167, 0, 4, 3, 29, 184, 1, 169, 26, 28, 29, 184, 1, 169, 163, 0, 28, 28]
abbrev dktX7_isRest_1 : List UInt8 := dkwX7_isRest_1 ++ dktX7_isRest_2
def dkwX7_isRest_0 : List UInt8 := [27, 4, 164, 0, 7, 4, 167, 0, 4, 3, 61, 27, 5, 112, 4, 160, 0, 7, 4, 167, 0, 4, 3, 62]
abbrev dktX7_isRest_0 : List UInt8 := dkwX7_isRest_0 ++ dktX7_isRest_1
theorem dksX7_isRest_0 : cX7_isRest.data.toList.drop 0 = dktX7_isRest_0 := by decide +kernel
theorem dksX7_isRest_1 : cX7_isRest.data.toList.drop 24 = dktX7_isRest_1 := dk_seg dksX7_isRest_0 24 rfl rfl
theorem dksX7_isRest_2 : cX7_isRest.data.toList.drop 48 = dktX7_isRest_2 := dk_seg dksX7_isRest_1 24 rfl rfl
theorem dksX7_isRest_3 : cX7_isRest.data.toList.drop 72 = dktX7_isRest_3 := dk_seg dksX7_isRest_2 24 rfl rfl
theorem dX7_isRest_0 : decode cX7_isRest 0 = .ok (.iload_n 1, 1) := dk_27 (dk_at dksX7_isRest_0 0 rfl rfl)
theorem dX7_isRest_1 : decode cX7_isRest 1 = .ok (.iconst 1, 1) := dk_4 (dk_at dksX7_isRest_0 1 rfl rfl)
theorem dX7_isRest_2 : decode cX7_isRest 2 = .ok (.if_icmp .le 7, 3) := dk_164 0 7 (dk_at dksX7_isRest_0 2 rfl rfl)
theorem dX7_isRest_5 : decode cX7_isRest 5 = .ok (.iconst 1, 1) := dk_4 (dk_at dksX7_isRest_0 5 rfl rfl)
theorem dX7_isRest_6 : decode cX7_isRest 6 = .ok (.goto 4, 3) := dk_167 0 4 (dk_at dksX7_isRest_0 6 rfl rfl)
theorem dX7_isRest_9 : decode cX7_isRest 9 = .ok (.iconst 0, 1) := dk_3 (dk_at dksX7_isRest_0 9 rfl rfl)
theorem dX7_isRest_10 : decode cX7_isRest 10 = .ok (.istore_n 2, 1) := dk_61 (dk_at dksX7_isRest_0 10 rfl rfl)
theorem dX7_isRest_11 : decode cX7_isRest 11 = .ok (.iload_n 1, 1) := dk_27 (dk_at dksX7_isRest_0 11 rfl rfl)
theorem dX7_isRest_12 : decode cX7_isRest 12 = .ok (.iconst 2, 1) := dk_5 (dk_at dksX7_isRest_0 12 rfl rfl)
theorem dX7_isRest_13 : decode cX7_isRest 13 = .ok (.irem, 1) := dk_112 (dk_at dksX7_isRest_0 13 rfl rfl)
theorem dX7_isRest_14 : decode cX7_isRest 14 = .ok (.iconst 1, 1) := dk_4 (dk_at dksX7_isRest_0 14 rfl rfl)
theorem dX7_isRest_15 : decode cX7_isRest 15 = .ok (.if_icmp .ne 7, 3) := dk_160 0 7 (dk_at dksX7_isRest_0 15 rfl rfl)
theorem dX7_isRest_18 : decode cX7_isRest 18 = .ok (.iconst 1, 1) := dk_4 (dk_at dksX7_isRest_0 18 rfl rfl)
theorem dX7_isRest_19 : decode cX7_isRest 19 = .ok (.goto 4, 3) := dk_167 0 4 (dk_at dksX7_isRest_0 19 rfl rfl)
theorem dX7_isRest_22 : decode cX7_isRest 22 = .ok (.iconst 0, 1) := dk_3 (dk_at dksX7_isRest_0 22 rfl rfl)
theorem dX7_isRest_23 : decode cX7_isRest 23 = .ok (.istore_n 3, 1) := dk_62 (dk_at dksX7_isRest_0 23 rfl rfl)
theorem dX7_isRest_24 : decode cX7_isRest 24 = .ok (.iload_n 0, 1) := dk_26 (dk_at dksX7_isRest_1 0 rfl rfl)
theorem dX7_isRest_25 : decode cX7_isRest 25 = .ok (.iload_n 2, 1) := dk_28 (dk_at dksX7_isRest_1 1 rfl rfl)
theorem dX7_isRest_26 : decode cX7_isRest 26 = .ok (.ifCond .ne 7, 3) := dk_154 0 7 (dk_at dksX7_isRest_1 2 rfl rfl)
theorem dX7_isRest_29 : decode cX7_isRest 29 = .ok (.iconst 1, 1) := dk_4 (dk_at dksX7_isRest_1 5 rfl rfl)
theorem dX7_isRest_30 : decode cX7_isRest 30 = .ok (.goto 4, 3) := dk_167 0 4 (dk_at dksX7_isRest_1 6 rfl rfl)
theorem dX7_isRest_33 : decode cX7_isRest 33 = .ok (.iconst 0, 1) := dk_3 (dk_at dksX7_isRest_1 9 rfl rfl)
theorem dX7_isRest_34 : decode cX7_isRest 34 = .ok (.iload_n 3, 1) := dk_29 (dk_at dksX7_isRest_1 10 rfl rfl)
theorem dX7_isRest_35 : decode cX7_isRest 35 = .ok (.invokestatic 425, 3) := dk_184 1 169 (dk_at dksX7_isRest_1 11 rfl rfl)
theorem dX7_isRest_38 : decode cX7_isRest 38 = .ok (.iload_n 0, 1) := dk_26 (dk_at dksX7_isRest_1 14 rfl rfl)
theorem dX7_isRest_39 : decode cX7_isRest 39 = .ok (.iload_n 2, 1) := dk_28 (dk_at dksX7_isRest_1 15 rfl rfl)
theorem dX7_isRest_40 : decode cX7_isRest 40 = .ok (.iload_n 3, 1) := dk_29 (dk_at dksX7_isRest_1 16 rfl rfl)
theorem dX7_isRest_41 : decode cX7_isRest 41 = .ok (.invokestatic 425, 3) := dk_184 1 169 (dk_at dksX7_isRest_1 17 rfl rfl)
theorem dX7_isRest_44 : decode cX7_isRest 44 = .ok (.if_icmp .gt 28, 3) := dk_163 0 28 (dk_at dksX7_isRest_1 20 rfl rfl)
theorem dX7_isRest_47 : decode cX7_isRest 47 = .ok (.iload_n 2, 1) := dk_28 (dk_at dksX7_isRest_1 23 rfl rfl)
theorem dX7_isRest_48 : decode cX7_isRest 48 = .ok (.iload_n 3, 1) := dk_29 (dk_at dksX7_isRest_2 0 rfl rfl)
theorem dX7_isRest_49 : decode cX7_isRest 49 = .ok (.ifCond .ne 7, 3) := dk_154 0 7 (dk_at dksX7_isRest_2 1 rfl rfl)
theorem dX7_isRest_52 : decode cX7_isRest 52 = .ok (.iconst 1, 1) := dk_4 (dk_at dksX7_isRest_2 4 rfl rfl)
theorem dX7_isRest_53 : decode cX7_isRest 53 = .ok (.goto 4, 3) := dk_167 0 4 (dk_at dksX7_isRest_2 5 rfl rfl)
theorem dX7_isRest_56 : decode cX7_isRest 56 = .ok (.iconst 0, 1) := dk_3 (dk_at dksX7_isRest_2 8 rfl rfl)
theorem dX7_isRest_57 : decode cX7_isRest 57 = .ok (.invokestatic 421, 3) := dk_184 1 165 (dk_at dksX7_isRest_2 9 rfl rfl)
theorem dX7_isRest_60 : decode cX7_isRest 60 = .ok (.iload_n 2, 1) := dk_28 (dk_at dksX7_isRest_2 12 rfl rfl)
theorem dX7_isRest_61 : decode cX7_isRest 61 = .ok (.iload_n 3, 1) := dk_29 (dk_at dksX7_isRest_2 13 rfl rfl)
theorem dX7_isRest_62 : decode cX7_isRest 62 = .ok (.invokestatic 421, 3) := dk_184 1 165 (dk_at dksX7_isRest_2 14 rfl rfl)
theorem dX7_isRest_65 : decode cX7_isRest 65 = .ok (.if_icmp .gt 7, 3) := dk_163 0 7 (dk_at dksX7_isRest_2 17 rfl rfl)
theorem dX7_isRest_68 : decode cX7_isRest 68 = .ok (.iconst 1, 1) := dk_4 (dk_at dksX7_isRest_2 20 rfl rfl)
theorem dX7_isRest_69 : decode cX7_isRest 69 = .ok (.goto 4, 3) := dk_167 0 4 (dk_at dksX7_isRest_2 21 rfl rfl)
theorem dX7_isRest_72 : decode cX7_isRest 72 = .ok (.iconst 0, 1) := dk_3 (dk_at dksX7_isRest_3 0 rfl rfl)
theorem dX7_isRest_73 : decode cX7_isRest 73 = .ok (.ireturn, 1) := dk_172 (dk_at dksX7_isRest_3 1 rfl rfl)
abbrev cX7_rest : ByteArray := prog_14_method_106_code
def yX7_rest : MethodName := ⟨RX7, "rest", "(I)I"⟩
def dkwX7_rest_2 : List UInt8 := [182, 0, 61, 172, 132, 3, 1, 167, 255, 225, 42, 16, 254, 182, 0, 61, 172]
abbrev dktX7_rest_2 : List UInt8 := dkwX7_rest_2 ++ []
def dkwX7_rest_1 : List UInt8 := [7, 162, 0, 32, 27, 29, 184, 1, 173, 153, 0, 18, 42, 16, 10, 29, 5, 108, 104, 29, 5, 112, 96]
abbrev dktX7_rest_1 : List UInt8 := dkwX7_rest_1 ++ dktX7_rest_2
def dkwX7_rest_0 : List UInt8 := [42, 3, 181, 0, 51, 42, 27, 182, 1, 159, 61, 28, 158, 0, 9, 42, 28, 182, 0, 57, 172, 3, 62, 29]
abbrev dktX7_rest_0 : List UInt8 := dkwX7_rest_0 ++ dktX7_rest_1
theorem dksX7_rest_0 : cX7_rest.data.toList.drop 0 = dktX7_rest_0 := by decide +kernel
theorem dksX7_rest_1 : cX7_rest.data.toList.drop 24 = dktX7_rest_1 := dk_seg dksX7_rest_0 24 rfl rfl
theorem dksX7_rest_2 : cX7_rest.data.toList.drop 47 = dktX7_rest_2 := dk_seg dksX7_rest_1 23 rfl rfl
theorem dX7_rest_0 : decode cX7_rest 0 = .ok (.aload_n 0, 1) := dk_42 (dk_at dksX7_rest_0 0 rfl rfl)
theorem dX7_rest_1 : decode cX7_rest 1 = .ok (.iconst 0, 1) := dk_3 (dk_at dksX7_rest_0 1 rfl rfl)
theorem dX7_rest_2 : decode cX7_rest 2 = .ok (.putfield 51, 3) := dk_181 0 51 (dk_at dksX7_rest_0 2 rfl rfl)
theorem dX7_rest_5 : decode cX7_rest 5 = .ok (.aload_n 0, 1) := dk_42 (dk_at dksX7_rest_0 5 rfl rfl)
theorem dX7_rest_6 : decode cX7_rest 6 = .ok (.iload_n 1, 1) := dk_27 (dk_at dksX7_rest_0 6 rfl rfl)
theorem dX7_rest_7 : decode cX7_rest 7 = .ok (.invokevirtual 415, 3) := dk_182 1 159 (dk_at dksX7_rest_0 7 rfl rfl)
theorem dX7_rest_10 : decode cX7_rest 10 = .ok (.istore_n 2, 1) := dk_61 (dk_at dksX7_rest_0 10 rfl rfl)
theorem dX7_rest_11 : decode cX7_rest 11 = .ok (.iload_n 2, 1) := dk_28 (dk_at dksX7_rest_0 11 rfl rfl)
theorem dX7_rest_12 : decode cX7_rest 12 = .ok (.ifCond .le 9, 3) := dk_158 0 9 (dk_at dksX7_rest_0 12 rfl rfl)
theorem dX7_rest_15 : decode cX7_rest 15 = .ok (.aload_n 0, 1) := dk_42 (dk_at dksX7_rest_0 15 rfl rfl)
theorem dX7_rest_16 : decode cX7_rest 16 = .ok (.iload_n 2, 1) := dk_28 (dk_at dksX7_rest_0 16 rfl rfl)
theorem dX7_rest_17 : decode cX7_rest 17 = .ok (.invokevirtual 57, 3) := dk_182 0 57 (dk_at dksX7_rest_0 17 rfl rfl)
theorem dX7_rest_20 : decode cX7_rest 20 = .ok (.ireturn, 1) := dk_172 (dk_at dksX7_rest_0 20 rfl rfl)
theorem dX7_rest_21 : decode cX7_rest 21 = .ok (.iconst 0, 1) := dk_3 (dk_at dksX7_rest_0 21 rfl rfl)
theorem dX7_rest_22 : decode cX7_rest 22 = .ok (.istore_n 3, 1) := dk_62 (dk_at dksX7_rest_0 22 rfl rfl)
theorem dX7_rest_23 : decode cX7_rest 23 = .ok (.iload_n 3, 1) := dk_29 (dk_at dksX7_rest_0 23 rfl rfl)
theorem dX7_rest_24 : decode cX7_rest 24 = .ok (.iconst 4, 1) := dk_7 (dk_at dksX7_rest_1 0 rfl rfl)
theorem dX7_rest_25 : decode cX7_rest 25 = .ok (.if_icmp .ge 32, 3) := dk_162 0 32 (dk_at dksX7_rest_1 1 rfl rfl)
theorem dX7_rest_28 : decode cX7_rest 28 = .ok (.iload_n 1, 1) := dk_27 (dk_at dksX7_rest_1 4 rfl rfl)
theorem dX7_rest_29 : decode cX7_rest 29 = .ok (.iload_n 3, 1) := dk_29 (dk_at dksX7_rest_1 5 rfl rfl)
theorem dX7_rest_30 : decode cX7_rest 30 = .ok (.invokestatic 429, 3) := dk_184 1 173 (dk_at dksX7_rest_1 6 rfl rfl)
theorem dX7_rest_33 : decode cX7_rest 33 = .ok (.ifCond .eq 18, 3) := dk_153 0 18 (dk_at dksX7_rest_1 9 rfl rfl)
theorem dX7_rest_36 : decode cX7_rest 36 = .ok (.aload_n 0, 1) := dk_42 (dk_at dksX7_rest_1 12 rfl rfl)
theorem dX7_rest_37 : decode cX7_rest 37 = .ok (.bipush 10, 2) := dk_16 10 (dk_at dksX7_rest_1 13 rfl rfl)
theorem dX7_rest_39 : decode cX7_rest 39 = .ok (.iload_n 3, 1) := dk_29 (dk_at dksX7_rest_1 15 rfl rfl)
theorem dX7_rest_40 : decode cX7_rest 40 = .ok (.iconst 2, 1) := dk_5 (dk_at dksX7_rest_1 16 rfl rfl)
theorem dX7_rest_41 : decode cX7_rest 41 = .ok (.idiv, 1) := dk_108 (dk_at dksX7_rest_1 17 rfl rfl)
theorem dX7_rest_42 : decode cX7_rest 42 = .ok (.imul, 1) := dk_104 (dk_at dksX7_rest_1 18 rfl rfl)
theorem dX7_rest_43 : decode cX7_rest 43 = .ok (.iload_n 3, 1) := dk_29 (dk_at dksX7_rest_1 19 rfl rfl)
theorem dX7_rest_44 : decode cX7_rest 44 = .ok (.iconst 2, 1) := dk_5 (dk_at dksX7_rest_1 20 rfl rfl)
theorem dX7_rest_45 : decode cX7_rest 45 = .ok (.irem, 1) := dk_112 (dk_at dksX7_rest_1 21 rfl rfl)
theorem dX7_rest_46 : decode cX7_rest 46 = .ok (.iadd, 1) := dk_96 (dk_at dksX7_rest_1 22 rfl rfl)
theorem dX7_rest_47 : decode cX7_rest 47 = .ok (.invokevirtual 61, 3) := dk_182 0 61 (dk_at dksX7_rest_2 0 rfl rfl)
theorem dX7_rest_50 : decode cX7_rest 50 = .ok (.ireturn, 1) := dk_172 (dk_at dksX7_rest_2 3 rfl rfl)
theorem dX7_rest_51 : decode cX7_rest 51 = .ok (.iinc 3 1, 3) := dk_132 3 1 (dk_at dksX7_rest_2 4 rfl rfl)
theorem dX7_rest_54 : decode cX7_rest 54 = .ok (.goto (-31), 3) := dk_167 255 225 (dk_at dksX7_rest_2 7 rfl rfl)
theorem dX7_rest_57 : decode cX7_rest 57 = .ok (.aload_n 0, 1) := dk_42 (dk_at dksX7_rest_2 10 rfl rfl)
theorem dX7_rest_58 : decode cX7_rest 58 = .ok (.bipush (-2), 2) := dk_16 254 (dk_at dksX7_rest_2 11 rfl rfl)
theorem dX7_rest_60 : decode cX7_rest 60 = .ok (.invokevirtual 61, 3) := dk_182 0 61 (dk_at dksX7_rest_2 13 rfl rfl)
theorem dX7_rest_63 : decode cX7_rest 63 = .ok (.ireturn, 1) := dk_172 (dk_at dksX7_rest_2 16 rfl rfl)
abbrev cX7_nights : ByteArray := prog_14_method_110_code
def yX7_nights : MethodName := ⟨RX7, "nights", "(III)I"⟩
def dkwX7_nights_1 : List UInt8 := [21, 4, 182, 0, 57, 172, 42, 28, 29, 182, 1, 198, 42, 42, 180, 0, 21, 27, 46, 182, 0, 61, 172]
abbrev dktX7_nights_1 : List UInt8 := dkwX7_nights_1 ++ []
def dkwX7_nights_0 : List UInt8 := [42, 3, 181, 0, 51, 42, 42, 27, 182, 1, 35, 28, 29, 182, 1, 194, 54, 4, 21, 4, 158, 0, 10, 42]
abbrev dktX7_nights_0 : List UInt8 := dkwX7_nights_0 ++ dktX7_nights_1
theorem dksX7_nights_0 : cX7_nights.data.toList.drop 0 = dktX7_nights_0 := by decide +kernel
theorem dksX7_nights_1 : cX7_nights.data.toList.drop 24 = dktX7_nights_1 := dk_seg dksX7_nights_0 24 rfl rfl
theorem dX7_nights_0 : decode cX7_nights 0 = .ok (.aload_n 0, 1) := dk_42 (dk_at dksX7_nights_0 0 rfl rfl)
theorem dX7_nights_1 : decode cX7_nights 1 = .ok (.iconst 0, 1) := dk_3 (dk_at dksX7_nights_0 1 rfl rfl)
theorem dX7_nights_2 : decode cX7_nights 2 = .ok (.putfield 51, 3) := dk_181 0 51 (dk_at dksX7_nights_0 2 rfl rfl)
theorem dX7_nights_5 : decode cX7_nights 5 = .ok (.aload_n 0, 1) := dk_42 (dk_at dksX7_nights_0 5 rfl rfl)
theorem dX7_nights_6 : decode cX7_nights 6 = .ok (.aload_n 0, 1) := dk_42 (dk_at dksX7_nights_0 6 rfl rfl)
theorem dX7_nights_7 : decode cX7_nights 7 = .ok (.iload_n 1, 1) := dk_27 (dk_at dksX7_nights_0 7 rfl rfl)
theorem dX7_nights_8 : decode cX7_nights 8 = .ok (.invokevirtual 291, 3) := dk_182 1 35 (dk_at dksX7_nights_0 8 rfl rfl)
theorem dX7_nights_11 : decode cX7_nights 11 = .ok (.iload_n 2, 1) := dk_28 (dk_at dksX7_nights_0 11 rfl rfl)
theorem dX7_nights_12 : decode cX7_nights 12 = .ok (.iload_n 3, 1) := dk_29 (dk_at dksX7_nights_0 12 rfl rfl)
theorem dX7_nights_13 : decode cX7_nights 13 = .ok (.invokevirtual 450, 3) := dk_182 1 194 (dk_at dksX7_nights_0 13 rfl rfl)
theorem dX7_nights_16 : decode cX7_nights 16 = .ok (.istore 4, 2) := dk_54 4 (dk_at dksX7_nights_0 16 rfl rfl)
theorem dX7_nights_18 : decode cX7_nights 18 = .ok (.iload 4, 2) := dk_21 4 (dk_at dksX7_nights_0 18 rfl rfl)
theorem dX7_nights_20 : decode cX7_nights 20 = .ok (.ifCond .le 10, 3) := dk_158 0 10 (dk_at dksX7_nights_0 20 rfl rfl)
theorem dX7_nights_23 : decode cX7_nights 23 = .ok (.aload_n 0, 1) := dk_42 (dk_at dksX7_nights_0 23 rfl rfl)
theorem dX7_nights_24 : decode cX7_nights 24 = .ok (.iload 4, 2) := dk_21 4 (dk_at dksX7_nights_1 0 rfl rfl)
theorem dX7_nights_26 : decode cX7_nights 26 = .ok (.invokevirtual 57, 3) := dk_182 0 57 (dk_at dksX7_nights_1 2 rfl rfl)
theorem dX7_nights_29 : decode cX7_nights 29 = .ok (.ireturn, 1) := dk_172 (dk_at dksX7_nights_1 5 rfl rfl)
theorem dX7_nights_30 : decode cX7_nights 30 = .ok (.aload_n 0, 1) := dk_42 (dk_at dksX7_nights_1 6 rfl rfl)
theorem dX7_nights_31 : decode cX7_nights 31 = .ok (.iload_n 2, 1) := dk_28 (dk_at dksX7_nights_1 7 rfl rfl)
theorem dX7_nights_32 : decode cX7_nights 32 = .ok (.iload_n 3, 1) := dk_29 (dk_at dksX7_nights_1 8 rfl rfl)
theorem dX7_nights_33 : decode cX7_nights 33 = .ok (.invokevirtual 454, 3) := dk_182 1 198 (dk_at dksX7_nights_1 9 rfl rfl)
theorem dX7_nights_36 : decode cX7_nights 36 = .ok (.aload_n 0, 1) := dk_42 (dk_at dksX7_nights_1 12 rfl rfl)
theorem dX7_nights_37 : decode cX7_nights 37 = .ok (.aload_n 0, 1) := dk_42 (dk_at dksX7_nights_1 13 rfl rfl)
theorem dX7_nights_38 : decode cX7_nights 38 = .ok (.getfield 21, 3) := dk_180 0 21 (dk_at dksX7_nights_1 14 rfl rfl)
theorem dX7_nights_41 : decode cX7_nights 41 = .ok (.iload_n 1, 1) := dk_27 (dk_at dksX7_nights_1 17 rfl rfl)
theorem dX7_nights_42 : decode cX7_nights 42 = .ok (.iaload, 1) := dk_46 (dk_at dksX7_nights_1 18 rfl rfl)
theorem dX7_nights_43 : decode cX7_nights 43 = .ok (.invokevirtual 61, 3) := dk_182 0 61 (dk_at dksX7_nights_1 19 rfl rfl)
theorem dX7_nights_46 : decode cX7_nights 46 = .ok (.ireturn, 1) := dk_172 (dk_at dksX7_nights_1 22 rfl rfl)
abbrev cX7_refusesSeed : ByteArray := prog_14_method_109_code
def yX7_refusesSeed : MethodName := ⟨RX7, "refusesSeed", "(ZII)I"⟩
def dkwX7_refusesSeed_1 : List UInt8 := [184, 0, 130, 153, 0, 7, 3, 167, 0, 4, 5, 172]
abbrev dktX7_refusesSeed_1 : List UInt8 := dkwX7_refusesSeed_1 ++ []
def dkwX7_refusesSeed_0 : List UInt8 := [27, 154, 0, 7, 4, 167, 0, 29, 28, 3, 19, 1, 193, 184, 0, 130, 153, 0, 17, 29, 3, 16, 60]
abbrev dktX7_refusesSeed_0 : List UInt8 := dkwX7_refusesSeed_0 ++ dktX7_refusesSeed_1
theorem dksX7_refusesSeed_0 : cX7_refusesSeed.data.toList.drop 0 = dktX7_refusesSeed_0 := by decide +kernel
theorem dksX7_refusesSeed_1 : cX7_refusesSeed.data.toList.drop 23 = dktX7_refusesSeed_1 := dk_seg dksX7_refusesSeed_0 23 rfl rfl
theorem dX7_refusesSeed_0 : decode cX7_refusesSeed 0 = .ok (.iload_n 1, 1) := dk_27 (dk_at dksX7_refusesSeed_0 0 rfl rfl)
theorem dX7_refusesSeed_1 : decode cX7_refusesSeed 1 = .ok (.ifCond .ne 7, 3) := dk_154 0 7 (dk_at dksX7_refusesSeed_0 1 rfl rfl)
theorem dX7_refusesSeed_4 : decode cX7_refusesSeed 4 = .ok (.iconst 1, 1) := dk_4 (dk_at dksX7_refusesSeed_0 4 rfl rfl)
theorem dX7_refusesSeed_5 : decode cX7_refusesSeed 5 = .ok (.goto 29, 3) := dk_167 0 29 (dk_at dksX7_refusesSeed_0 5 rfl rfl)
theorem dX7_refusesSeed_8 : decode cX7_refusesSeed 8 = .ok (.iload_n 2, 1) := dk_28 (dk_at dksX7_refusesSeed_0 8 rfl rfl)
theorem dX7_refusesSeed_9 : decode cX7_refusesSeed 9 = .ok (.iconst 0, 1) := dk_3 (dk_at dksX7_refusesSeed_0 9 rfl rfl)
theorem dX7_refusesSeed_10 : decode cX7_refusesSeed 10 = .ok (.ldc_w 449, 3) := dk_19 1 193 (dk_at dksX7_refusesSeed_0 10 rfl rfl)
theorem dX7_refusesSeed_13 : decode cX7_refusesSeed 13 = .ok (.invokestatic 130, 3) := dk_184 0 130 (dk_at dksX7_refusesSeed_0 13 rfl rfl)
theorem dX7_refusesSeed_16 : decode cX7_refusesSeed 16 = .ok (.ifCond .eq 17, 3) := dk_153 0 17 (dk_at dksX7_refusesSeed_0 16 rfl rfl)
theorem dX7_refusesSeed_19 : decode cX7_refusesSeed 19 = .ok (.iload_n 3, 1) := dk_29 (dk_at dksX7_refusesSeed_0 19 rfl rfl)
theorem dX7_refusesSeed_20 : decode cX7_refusesSeed 20 = .ok (.iconst 0, 1) := dk_3 (dk_at dksX7_refusesSeed_0 20 rfl rfl)
theorem dX7_refusesSeed_21 : decode cX7_refusesSeed 21 = .ok (.bipush 60, 2) := dk_16 60 (dk_at dksX7_refusesSeed_0 21 rfl rfl)
theorem dX7_refusesSeed_23 : decode cX7_refusesSeed 23 = .ok (.invokestatic 130, 3) := dk_184 0 130 (dk_at dksX7_refusesSeed_1 0 rfl rfl)
theorem dX7_refusesSeed_26 : decode cX7_refusesSeed 26 = .ok (.ifCond .eq 7, 3) := dk_153 0 7 (dk_at dksX7_refusesSeed_1 3 rfl rfl)
theorem dX7_refusesSeed_29 : decode cX7_refusesSeed 29 = .ok (.iconst 0, 1) := dk_3 (dk_at dksX7_refusesSeed_1 6 rfl rfl)
theorem dX7_refusesSeed_30 : decode cX7_refusesSeed 30 = .ok (.goto 4, 3) := dk_167 0 4 (dk_at dksX7_refusesSeed_1 7 rfl rfl)
theorem dX7_refusesSeed_33 : decode cX7_refusesSeed 33 = .ok (.iconst 2, 1) := dk_5 (dk_at dksX7_refusesSeed_1 10 rfl rfl)
theorem dX7_refusesSeed_34 : decode cX7_refusesSeed 34 = .ok (.ireturn, 1) := dk_172 (dk_at dksX7_refusesSeed_1 11 rfl rfl)
abbrev cX7_nightsAll : ByteArray := prog_14_method_108_code
def yX7_nightsAll : MethodName := ⟨RX7, "nightsAll", "(II)V"⟩
def dkwX7_nightsAll_2 : List UInt8 := [46, 42, 180, 0, 17, 16, 43, 46, 164, 0, 8, 42, 29, 181, 1, 186, 132, 3, 1, 167, 255, 211, 177]
abbrev dktX7_nightsAll_2 : List UInt8 := dkwX7_nightsAll_2 ++ []
def dkwX7_nightsAll_1 : List UInt8 := [163, 0, 46, 42, 3, 182, 1, 189, 87, 42, 180, 1, 186, 16, 254, 160, 0, 25, 42, 180, 0, 21, 16, 43]
abbrev dktX7_nightsAll_1 : List UInt8 := dkwX7_nightsAll_1 ++ dktX7_nightsAll_2
def dkwX7_nightsAll_0 : List UInt8 := [42, 182, 1, 59, 42, 180, 0, 21, 16, 46, 27, 79, 42, 16, 254, 181, 1, 186, 4, 62, 29, 28]
abbrev dktX7_nightsAll_0 : List UInt8 := dkwX7_nightsAll_0 ++ dktX7_nightsAll_1
theorem dksX7_nightsAll_0 : cX7_nightsAll.data.toList.drop 0 = dktX7_nightsAll_0 := by decide +kernel
theorem dksX7_nightsAll_1 : cX7_nightsAll.data.toList.drop 22 = dktX7_nightsAll_1 := dk_seg dksX7_nightsAll_0 22 rfl rfl
theorem dksX7_nightsAll_2 : cX7_nightsAll.data.toList.drop 46 = dktX7_nightsAll_2 := dk_seg dksX7_nightsAll_1 24 rfl rfl
theorem dX7_nightsAll_0 : decode cX7_nightsAll 0 = .ok (.aload_n 0, 1) := dk_42 (dk_at dksX7_nightsAll_0 0 rfl rfl)
theorem dX7_nightsAll_1 : decode cX7_nightsAll 1 = .ok (.invokevirtual 315, 3) := dk_182 1 59 (dk_at dksX7_nightsAll_0 1 rfl rfl)
theorem dX7_nightsAll_4 : decode cX7_nightsAll 4 = .ok (.aload_n 0, 1) := dk_42 (dk_at dksX7_nightsAll_0 4 rfl rfl)
theorem dX7_nightsAll_5 : decode cX7_nightsAll 5 = .ok (.getfield 21, 3) := dk_180 0 21 (dk_at dksX7_nightsAll_0 5 rfl rfl)
theorem dX7_nightsAll_8 : decode cX7_nightsAll 8 = .ok (.bipush 46, 2) := dk_16 46 (dk_at dksX7_nightsAll_0 8 rfl rfl)
theorem dX7_nightsAll_10 : decode cX7_nightsAll 10 = .ok (.iload_n 1, 1) := dk_27 (dk_at dksX7_nightsAll_0 10 rfl rfl)
theorem dX7_nightsAll_11 : decode cX7_nightsAll 11 = .ok (.iastore, 1) := dk_79 (dk_at dksX7_nightsAll_0 11 rfl rfl)
theorem dX7_nightsAll_12 : decode cX7_nightsAll 12 = .ok (.aload_n 0, 1) := dk_42 (dk_at dksX7_nightsAll_0 12 rfl rfl)
theorem dX7_nightsAll_13 : decode cX7_nightsAll 13 = .ok (.bipush (-2), 2) := dk_16 254 (dk_at dksX7_nightsAll_0 13 rfl rfl)
theorem dX7_nightsAll_15 : decode cX7_nightsAll 15 = .ok (.putfield 442, 3) := dk_181 1 186 (dk_at dksX7_nightsAll_0 15 rfl rfl)
theorem dX7_nightsAll_18 : decode cX7_nightsAll 18 = .ok (.iconst 1, 1) := dk_4 (dk_at dksX7_nightsAll_0 18 rfl rfl)
theorem dX7_nightsAll_19 : decode cX7_nightsAll 19 = .ok (.istore_n 3, 1) := dk_62 (dk_at dksX7_nightsAll_0 19 rfl rfl)
theorem dX7_nightsAll_20 : decode cX7_nightsAll 20 = .ok (.iload_n 3, 1) := dk_29 (dk_at dksX7_nightsAll_0 20 rfl rfl)
theorem dX7_nightsAll_21 : decode cX7_nightsAll 21 = .ok (.iload_n 2, 1) := dk_28 (dk_at dksX7_nightsAll_0 21 rfl rfl)
theorem dX7_nightsAll_22 : decode cX7_nightsAll 22 = .ok (.if_icmp .gt 46, 3) := dk_163 0 46 (dk_at dksX7_nightsAll_1 0 rfl rfl)
theorem dX7_nightsAll_25 : decode cX7_nightsAll 25 = .ok (.aload_n 0, 1) := dk_42 (dk_at dksX7_nightsAll_1 3 rfl rfl)
theorem dX7_nightsAll_26 : decode cX7_nightsAll 26 = .ok (.iconst 0, 1) := dk_3 (dk_at dksX7_nightsAll_1 4 rfl rfl)
theorem dX7_nightsAll_27 : decode cX7_nightsAll 27 = .ok (.invokevirtual 445, 3) := dk_182 1 189 (dk_at dksX7_nightsAll_1 5 rfl rfl)
theorem dX7_nightsAll_30 : decode cX7_nightsAll 30 = .ok (.pop, 1) := dk_87 (dk_at dksX7_nightsAll_1 8 rfl rfl)
theorem dX7_nightsAll_31 : decode cX7_nightsAll 31 = .ok (.aload_n 0, 1) := dk_42 (dk_at dksX7_nightsAll_1 9 rfl rfl)
theorem dX7_nightsAll_32 : decode cX7_nightsAll 32 = .ok (.getfield 442, 3) := dk_180 1 186 (dk_at dksX7_nightsAll_1 10 rfl rfl)
theorem dX7_nightsAll_35 : decode cX7_nightsAll 35 = .ok (.bipush (-2), 2) := dk_16 254 (dk_at dksX7_nightsAll_1 13 rfl rfl)
theorem dX7_nightsAll_37 : decode cX7_nightsAll 37 = .ok (.if_icmp .ne 25, 3) := dk_160 0 25 (dk_at dksX7_nightsAll_1 15 rfl rfl)
theorem dX7_nightsAll_40 : decode cX7_nightsAll 40 = .ok (.aload_n 0, 1) := dk_42 (dk_at dksX7_nightsAll_1 18 rfl rfl)
theorem dX7_nightsAll_41 : decode cX7_nightsAll 41 = .ok (.getfield 21, 3) := dk_180 0 21 (dk_at dksX7_nightsAll_1 19 rfl rfl)
theorem dX7_nightsAll_44 : decode cX7_nightsAll 44 = .ok (.bipush 43, 2) := dk_16 43 (dk_at dksX7_nightsAll_1 22 rfl rfl)
theorem dX7_nightsAll_46 : decode cX7_nightsAll 46 = .ok (.iaload, 1) := dk_46 (dk_at dksX7_nightsAll_2 0 rfl rfl)
theorem dX7_nightsAll_47 : decode cX7_nightsAll 47 = .ok (.aload_n 0, 1) := dk_42 (dk_at dksX7_nightsAll_2 1 rfl rfl)
theorem dX7_nightsAll_48 : decode cX7_nightsAll 48 = .ok (.getfield 17, 3) := dk_180 0 17 (dk_at dksX7_nightsAll_2 2 rfl rfl)
theorem dX7_nightsAll_51 : decode cX7_nightsAll 51 = .ok (.bipush 43, 2) := dk_16 43 (dk_at dksX7_nightsAll_2 5 rfl rfl)
theorem dX7_nightsAll_53 : decode cX7_nightsAll 53 = .ok (.iaload, 1) := dk_46 (dk_at dksX7_nightsAll_2 7 rfl rfl)
theorem dX7_nightsAll_54 : decode cX7_nightsAll 54 = .ok (.if_icmp .le 8, 3) := dk_164 0 8 (dk_at dksX7_nightsAll_2 8 rfl rfl)
theorem dX7_nightsAll_57 : decode cX7_nightsAll 57 = .ok (.aload_n 0, 1) := dk_42 (dk_at dksX7_nightsAll_2 11 rfl rfl)
theorem dX7_nightsAll_58 : decode cX7_nightsAll 58 = .ok (.iload_n 3, 1) := dk_29 (dk_at dksX7_nightsAll_2 12 rfl rfl)
theorem dX7_nightsAll_59 : decode cX7_nightsAll 59 = .ok (.putfield 442, 3) := dk_181 1 186 (dk_at dksX7_nightsAll_2 13 rfl rfl)
theorem dX7_nightsAll_62 : decode cX7_nightsAll 62 = .ok (.iinc 3 1, 3) := dk_132 3 1 (dk_at dksX7_nightsAll_2 16 rfl rfl)
theorem dX7_nightsAll_65 : decode cX7_nightsAll 65 = .ok (.goto (-45), 3) := dk_167 255 211 (dk_at dksX7_nightsAll_2 19 rfl rfl)
theorem dX7_nightsAll_68 : decode cX7_nightsAll 68 = .ok (.return_, 1) := dk_177 (dk_at dksX7_nightsAll_2 22 rfl rfl)
abbrev cX7_aNight : ByteArray := prog_14_method_107_code
def yX7_aNight : MethodName := ⟨RX7, "aNight", "(Z)I"⟩
def dkwX7_aNight_4 : List UInt8 := [28, 27, 182, 1, 182, 28, 172]
abbrev dktX7_aNight_4 : List UInt8 := dkwX7_aNight_4 ++ []
def dkwX7_aNight_3 : List UInt8 := [180, 0, 225, 29, 46, 162, 0, 9, 4, 29, 120, 167, 0, 4, 3, 128, 61, 132, 3, 1, 167, 255, 171, 42]
abbrev dktX7_aNight_3 : List UInt8 := dkwX7_aNight_3 ++ dktX7_aNight_4
def dkwX7_aNight_2 : List UInt8 := [97, 20, 1, 180, 113, 136, 79, 28, 42, 180, 0, 21, 16, 46, 46, 16, 100, 112, 42, 180, 1, 24]
abbrev dktX7_aNight_2 : List UInt8 := dkwX7_aNight_2 ++ dktX7_aNight_3
def dkwX7_aNight_1 : List UInt8 := [167, 0, 63, 42, 180, 0, 21, 16, 46, 20, 1, 176, 42, 180, 0, 21, 16, 46, 46, 133, 105, 20, 1, 178]
abbrev dktX7_aNight_1 : List UInt8 := dkwX7_aNight_1 ++ dktX7_aNight_2
def dkwX7_aNight_0 : List UInt8 := [3, 61, 3, 62, 29, 42, 180, 1, 24, 180, 0, 170, 162, 0, 80, 42, 29, 182, 1, 38, 154, 0, 6]
abbrev dktX7_aNight_0 : List UInt8 := dkwX7_aNight_0 ++ dktX7_aNight_1
theorem dksX7_aNight_0 : cX7_aNight.data.toList.drop 0 = dktX7_aNight_0 := by decide +kernel
theorem dksX7_aNight_1 : cX7_aNight.data.toList.drop 23 = dktX7_aNight_1 := dk_seg dksX7_aNight_0 23 rfl rfl
theorem dksX7_aNight_2 : cX7_aNight.data.toList.drop 47 = dktX7_aNight_2 := dk_seg dksX7_aNight_1 24 rfl rfl
theorem dksX7_aNight_3 : cX7_aNight.data.toList.drop 69 = dktX7_aNight_3 := dk_seg dksX7_aNight_2 22 rfl rfl
theorem dksX7_aNight_4 : cX7_aNight.data.toList.drop 93 = dktX7_aNight_4 := dk_seg dksX7_aNight_3 24 rfl rfl
theorem dX7_aNight_0 : decode cX7_aNight 0 = .ok (.iconst 0, 1) := dk_3 (dk_at dksX7_aNight_0 0 rfl rfl)
theorem dX7_aNight_1 : decode cX7_aNight 1 = .ok (.istore_n 2, 1) := dk_61 (dk_at dksX7_aNight_0 1 rfl rfl)
theorem dX7_aNight_2 : decode cX7_aNight 2 = .ok (.iconst 0, 1) := dk_3 (dk_at dksX7_aNight_0 2 rfl rfl)
theorem dX7_aNight_3 : decode cX7_aNight 3 = .ok (.istore_n 3, 1) := dk_62 (dk_at dksX7_aNight_0 3 rfl rfl)
theorem dX7_aNight_4 : decode cX7_aNight 4 = .ok (.iload_n 3, 1) := dk_29 (dk_at dksX7_aNight_0 4 rfl rfl)
theorem dX7_aNight_5 : decode cX7_aNight 5 = .ok (.aload_n 0, 1) := dk_42 (dk_at dksX7_aNight_0 5 rfl rfl)
theorem dX7_aNight_6 : decode cX7_aNight 6 = .ok (.getfield 280, 3) := dk_180 1 24 (dk_at dksX7_aNight_0 6 rfl rfl)
theorem dX7_aNight_9 : decode cX7_aNight 9 = .ok (.getfield 170, 3) := dk_180 0 170 (dk_at dksX7_aNight_0 9 rfl rfl)
theorem dX7_aNight_12 : decode cX7_aNight 12 = .ok (.if_icmp .ge 80, 3) := dk_162 0 80 (dk_at dksX7_aNight_0 12 rfl rfl)
theorem dX7_aNight_15 : decode cX7_aNight 15 = .ok (.aload_n 0, 1) := dk_42 (dk_at dksX7_aNight_0 15 rfl rfl)
theorem dX7_aNight_16 : decode cX7_aNight 16 = .ok (.iload_n 3, 1) := dk_29 (dk_at dksX7_aNight_0 16 rfl rfl)
theorem dX7_aNight_17 : decode cX7_aNight 17 = .ok (.invokevirtual 294, 3) := dk_182 1 38 (dk_at dksX7_aNight_0 17 rfl rfl)
theorem dX7_aNight_20 : decode cX7_aNight 20 = .ok (.ifCond .ne 6, 3) := dk_154 0 6 (dk_at dksX7_aNight_0 20 rfl rfl)
theorem dX7_aNight_23 : decode cX7_aNight 23 = .ok (.goto 63, 3) := dk_167 0 63 (dk_at dksX7_aNight_1 0 rfl rfl)
theorem dX7_aNight_26 : decode cX7_aNight 26 = .ok (.aload_n 0, 1) := dk_42 (dk_at dksX7_aNight_1 3 rfl rfl)
theorem dX7_aNight_27 : decode cX7_aNight 27 = .ok (.getfield 21, 3) := dk_180 0 21 (dk_at dksX7_aNight_1 4 rfl rfl)
theorem dX7_aNight_30 : decode cX7_aNight 30 = .ok (.bipush 46, 2) := dk_16 46 (dk_at dksX7_aNight_1 7 rfl rfl)
theorem dX7_aNight_32 : decode cX7_aNight 32 = .ok (.ldc2_w 432, 3) := dk_20 1 176 (dk_at dksX7_aNight_1 9 rfl rfl)
theorem dX7_aNight_35 : decode cX7_aNight 35 = .ok (.aload_n 0, 1) := dk_42 (dk_at dksX7_aNight_1 12 rfl rfl)
theorem dX7_aNight_36 : decode cX7_aNight 36 = .ok (.getfield 21, 3) := dk_180 0 21 (dk_at dksX7_aNight_1 13 rfl rfl)
theorem dX7_aNight_39 : decode cX7_aNight 39 = .ok (.bipush 46, 2) := dk_16 46 (dk_at dksX7_aNight_1 16 rfl rfl)
theorem dX7_aNight_41 : decode cX7_aNight 41 = .ok (.iaload, 1) := dk_46 (dk_at dksX7_aNight_1 18 rfl rfl)
theorem dX7_aNight_42 : decode cX7_aNight 42 = .ok (.i2l, 1) := dk_133 (dk_at dksX7_aNight_1 19 rfl rfl)
theorem dX7_aNight_43 : decode cX7_aNight 43 = .ok (.lmul, 1) := dk_105 (dk_at dksX7_aNight_1 20 rfl rfl)
theorem dX7_aNight_44 : decode cX7_aNight 44 = .ok (.ldc2_w 434, 3) := dk_20 1 178 (dk_at dksX7_aNight_1 21 rfl rfl)
theorem dX7_aNight_47 : decode cX7_aNight 47 = .ok (.ladd, 1) := dk_97 (dk_at dksX7_aNight_2 0 rfl rfl)
theorem dX7_aNight_48 : decode cX7_aNight 48 = .ok (.ldc2_w 436, 3) := dk_20 1 180 (dk_at dksX7_aNight_2 1 rfl rfl)
theorem dX7_aNight_51 : decode cX7_aNight 51 = .ok (.lrem, 1) := dk_113 (dk_at dksX7_aNight_2 4 rfl rfl)
theorem dX7_aNight_52 : decode cX7_aNight 52 = .ok (.l2i, 1) := dk_136 (dk_at dksX7_aNight_2 5 rfl rfl)
theorem dX7_aNight_53 : decode cX7_aNight 53 = .ok (.iastore, 1) := dk_79 (dk_at dksX7_aNight_2 6 rfl rfl)
theorem dX7_aNight_54 : decode cX7_aNight 54 = .ok (.iload_n 2, 1) := dk_28 (dk_at dksX7_aNight_2 7 rfl rfl)
theorem dX7_aNight_55 : decode cX7_aNight 55 = .ok (.aload_n 0, 1) := dk_42 (dk_at dksX7_aNight_2 8 rfl rfl)
theorem dX7_aNight_56 : decode cX7_aNight 56 = .ok (.getfield 21, 3) := dk_180 0 21 (dk_at dksX7_aNight_2 9 rfl rfl)
theorem dX7_aNight_59 : decode cX7_aNight 59 = .ok (.bipush 46, 2) := dk_16 46 (dk_at dksX7_aNight_2 12 rfl rfl)
theorem dX7_aNight_61 : decode cX7_aNight 61 = .ok (.iaload, 1) := dk_46 (dk_at dksX7_aNight_2 14 rfl rfl)
theorem dX7_aNight_62 : decode cX7_aNight 62 = .ok (.bipush 100, 2) := dk_16 100 (dk_at dksX7_aNight_2 15 rfl rfl)
theorem dX7_aNight_64 : decode cX7_aNight 64 = .ok (.irem, 1) := dk_112 (dk_at dksX7_aNight_2 17 rfl rfl)
theorem dX7_aNight_65 : decode cX7_aNight 65 = .ok (.aload_n 0, 1) := dk_42 (dk_at dksX7_aNight_2 18 rfl rfl)
theorem dX7_aNight_66 : decode cX7_aNight 66 = .ok (.getfield 280, 3) := dk_180 1 24 (dk_at dksX7_aNight_2 19 rfl rfl)
theorem dX7_aNight_69 : decode cX7_aNight 69 = .ok (.getfield 225, 3) := dk_180 0 225 (dk_at dksX7_aNight_3 0 rfl rfl)
theorem dX7_aNight_72 : decode cX7_aNight 72 = .ok (.iload_n 3, 1) := dk_29 (dk_at dksX7_aNight_3 3 rfl rfl)
theorem dX7_aNight_73 : decode cX7_aNight 73 = .ok (.iaload, 1) := dk_46 (dk_at dksX7_aNight_3 4 rfl rfl)
theorem dX7_aNight_74 : decode cX7_aNight 74 = .ok (.if_icmp .ge 9, 3) := dk_162 0 9 (dk_at dksX7_aNight_3 5 rfl rfl)
theorem dX7_aNight_77 : decode cX7_aNight 77 = .ok (.iconst 1, 1) := dk_4 (dk_at dksX7_aNight_3 8 rfl rfl)
theorem dX7_aNight_78 : decode cX7_aNight 78 = .ok (.iload_n 3, 1) := dk_29 (dk_at dksX7_aNight_3 9 rfl rfl)
theorem dX7_aNight_79 : decode cX7_aNight 79 = .ok (.ishl, 1) := dk_120 (dk_at dksX7_aNight_3 10 rfl rfl)
theorem dX7_aNight_80 : decode cX7_aNight 80 = .ok (.goto 4, 3) := dk_167 0 4 (dk_at dksX7_aNight_3 11 rfl rfl)
theorem dX7_aNight_83 : decode cX7_aNight 83 = .ok (.iconst 0, 1) := dk_3 (dk_at dksX7_aNight_3 14 rfl rfl)
theorem dX7_aNight_84 : decode cX7_aNight 84 = .ok (.ior, 1) := dk_128 (dk_at dksX7_aNight_3 15 rfl rfl)
theorem dX7_aNight_85 : decode cX7_aNight 85 = .ok (.istore_n 2, 1) := dk_61 (dk_at dksX7_aNight_3 16 rfl rfl)
theorem dX7_aNight_86 : decode cX7_aNight 86 = .ok (.iinc 3 1, 3) := dk_132 3 1 (dk_at dksX7_aNight_3 17 rfl rfl)
theorem dX7_aNight_89 : decode cX7_aNight 89 = .ok (.goto (-85), 3) := dk_167 255 171 (dk_at dksX7_aNight_3 20 rfl rfl)
theorem dX7_aNight_92 : decode cX7_aNight 92 = .ok (.aload_n 0, 1) := dk_42 (dk_at dksX7_aNight_3 23 rfl rfl)
theorem dX7_aNight_93 : decode cX7_aNight 93 = .ok (.iload_n 2, 1) := dk_28 (dk_at dksX7_aNight_4 0 rfl rfl)
theorem dX7_aNight_94 : decode cX7_aNight 94 = .ok (.iload_n 1, 1) := dk_27 (dk_at dksX7_aNight_4 1 rfl rfl)
theorem dX7_aNight_95 : decode cX7_aNight 95 = .ok (.invokevirtual 438, 3) := dk_182 1 182 (dk_at dksX7_aNight_4 2 rfl rfl)
theorem dX7_aNight_98 : decode cX7_aNight 98 = .ok (.iload_n 2, 1) := dk_28 (dk_at dksX7_aNight_4 5 rfl rfl)
theorem dX7_aNight_99 : decode cX7_aNight 99 = .ok (.ireturn, 1) := dk_172 (dk_at dksX7_aNight_4 6 rfl rfl)
abbrev cX7_dieAll : ByteArray := prog_14_method_48_code
def yX7_dieAll : MethodName := ⟨RX7, "dieAll", "(IZ)V"⟩
def dkwX7_dieAll_3 : List UInt8 := [42, 180, 0, 21, 16, 45, 92, 46, 4, 96, 79, 177]
abbrev dktX7_dieAll_3 : List UInt8 := dkwX7_dieAll_3 ++ []
def dkwX7_dieAll_2 : List UInt8 := [46, 42, 180, 1, 47, 96, 79, 42, 180, 0, 21, 16, 42, 92, 46, 27, 2, 130, 126, 79, 28, 153, 0, 14]
abbrev dktX7_dieAll_2 : List UInt8 := dkwX7_dieAll_2 ++ dktX7_dieAll_3
def dkwX7_dieAll_1 : List UInt8 := [180, 0, 21, 29, 42, 180, 0, 33, 29, 46, 79, 132, 3, 1, 167, 255, 230, 42, 180, 0, 21, 16, 43, 92]
abbrev dktX7_dieAll_1 : List UInt8 := dkwX7_dieAll_1 ++ dktX7_dieAll_2
def dkwX7_dieAll_0 : List UInt8 := [42, 182, 1, 53, 42, 27, 182, 1, 56, 3, 62, 29, 42, 180, 1, 24, 180, 0, 170, 162, 0, 21, 42]
abbrev dktX7_dieAll_0 : List UInt8 := dkwX7_dieAll_0 ++ dktX7_dieAll_1
theorem dksX7_dieAll_0 : cX7_dieAll.data.toList.drop 0 = dktX7_dieAll_0 := by decide +kernel
theorem dksX7_dieAll_1 : cX7_dieAll.data.toList.drop 23 = dktX7_dieAll_1 := dk_seg dksX7_dieAll_0 23 rfl rfl
theorem dksX7_dieAll_2 : cX7_dieAll.data.toList.drop 47 = dktX7_dieAll_2 := dk_seg dksX7_dieAll_1 24 rfl rfl
theorem dksX7_dieAll_3 : cX7_dieAll.data.toList.drop 71 = dktX7_dieAll_3 := dk_seg dksX7_dieAll_2 24 rfl rfl
theorem dX7_dieAll_0 : decode cX7_dieAll 0 = .ok (.aload_n 0, 1) := dk_42 (dk_at dksX7_dieAll_0 0 rfl rfl)
theorem dX7_dieAll_1 : decode cX7_dieAll 1 = .ok (.invokevirtual 309, 3) := dk_182 1 53 (dk_at dksX7_dieAll_0 1 rfl rfl)
theorem dX7_dieAll_4 : decode cX7_dieAll 4 = .ok (.aload_n 0, 1) := dk_42 (dk_at dksX7_dieAll_0 4 rfl rfl)
theorem dX7_dieAll_5 : decode cX7_dieAll 5 = .ok (.iload_n 1, 1) := dk_27 (dk_at dksX7_dieAll_0 5 rfl rfl)
theorem dX7_dieAll_6 : decode cX7_dieAll 6 = .ok (.invokevirtual 312, 3) := dk_182 1 56 (dk_at dksX7_dieAll_0 6 rfl rfl)
theorem dX7_dieAll_9 : decode cX7_dieAll 9 = .ok (.iconst 0, 1) := dk_3 (dk_at dksX7_dieAll_0 9 rfl rfl)
theorem dX7_dieAll_10 : decode cX7_dieAll 10 = .ok (.istore_n 3, 1) := dk_62 (dk_at dksX7_dieAll_0 10 rfl rfl)
theorem dX7_dieAll_11 : decode cX7_dieAll 11 = .ok (.iload_n 3, 1) := dk_29 (dk_at dksX7_dieAll_0 11 rfl rfl)
theorem dX7_dieAll_12 : decode cX7_dieAll 12 = .ok (.aload_n 0, 1) := dk_42 (dk_at dksX7_dieAll_0 12 rfl rfl)
theorem dX7_dieAll_13 : decode cX7_dieAll 13 = .ok (.getfield 280, 3) := dk_180 1 24 (dk_at dksX7_dieAll_0 13 rfl rfl)
theorem dX7_dieAll_16 : decode cX7_dieAll 16 = .ok (.getfield 170, 3) := dk_180 0 170 (dk_at dksX7_dieAll_0 16 rfl rfl)
theorem dX7_dieAll_19 : decode cX7_dieAll 19 = .ok (.if_icmp .ge 21, 3) := dk_162 0 21 (dk_at dksX7_dieAll_0 19 rfl rfl)
theorem dX7_dieAll_22 : decode cX7_dieAll 22 = .ok (.aload_n 0, 1) := dk_42 (dk_at dksX7_dieAll_0 22 rfl rfl)
theorem dX7_dieAll_23 : decode cX7_dieAll 23 = .ok (.getfield 21, 3) := dk_180 0 21 (dk_at dksX7_dieAll_1 0 rfl rfl)
theorem dX7_dieAll_26 : decode cX7_dieAll 26 = .ok (.iload_n 3, 1) := dk_29 (dk_at dksX7_dieAll_1 3 rfl rfl)
theorem dX7_dieAll_27 : decode cX7_dieAll 27 = .ok (.aload_n 0, 1) := dk_42 (dk_at dksX7_dieAll_1 4 rfl rfl)
theorem dX7_dieAll_28 : decode cX7_dieAll 28 = .ok (.getfield 33, 3) := dk_180 0 33 (dk_at dksX7_dieAll_1 5 rfl rfl)
theorem dX7_dieAll_31 : decode cX7_dieAll 31 = .ok (.iload_n 3, 1) := dk_29 (dk_at dksX7_dieAll_1 8 rfl rfl)
theorem dX7_dieAll_32 : decode cX7_dieAll 32 = .ok (.iaload, 1) := dk_46 (dk_at dksX7_dieAll_1 9 rfl rfl)
theorem dX7_dieAll_33 : decode cX7_dieAll 33 = .ok (.iastore, 1) := dk_79 (dk_at dksX7_dieAll_1 10 rfl rfl)
theorem dX7_dieAll_34 : decode cX7_dieAll 34 = .ok (.iinc 3 1, 3) := dk_132 3 1 (dk_at dksX7_dieAll_1 11 rfl rfl)
theorem dX7_dieAll_37 : decode cX7_dieAll 37 = .ok (.goto (-26), 3) := dk_167 255 230 (dk_at dksX7_dieAll_1 14 rfl rfl)
theorem dX7_dieAll_40 : decode cX7_dieAll 40 = .ok (.aload_n 0, 1) := dk_42 (dk_at dksX7_dieAll_1 17 rfl rfl)
theorem dX7_dieAll_41 : decode cX7_dieAll 41 = .ok (.getfield 21, 3) := dk_180 0 21 (dk_at dksX7_dieAll_1 18 rfl rfl)
theorem dX7_dieAll_44 : decode cX7_dieAll 44 = .ok (.bipush 43, 2) := dk_16 43 (dk_at dksX7_dieAll_1 21 rfl rfl)
theorem dX7_dieAll_46 : decode cX7_dieAll 46 = .ok (.dup2, 1) := dk_92 (dk_at dksX7_dieAll_1 23 rfl rfl)
theorem dX7_dieAll_47 : decode cX7_dieAll 47 = .ok (.iaload, 1) := dk_46 (dk_at dksX7_dieAll_2 0 rfl rfl)
theorem dX7_dieAll_48 : decode cX7_dieAll 48 = .ok (.aload_n 0, 1) := dk_42 (dk_at dksX7_dieAll_2 1 rfl rfl)
theorem dX7_dieAll_49 : decode cX7_dieAll 49 = .ok (.getfield 303, 3) := dk_180 1 47 (dk_at dksX7_dieAll_2 2 rfl rfl)
theorem dX7_dieAll_52 : decode cX7_dieAll 52 = .ok (.iadd, 1) := dk_96 (dk_at dksX7_dieAll_2 5 rfl rfl)
theorem dX7_dieAll_53 : decode cX7_dieAll 53 = .ok (.iastore, 1) := dk_79 (dk_at dksX7_dieAll_2 6 rfl rfl)
theorem dX7_dieAll_54 : decode cX7_dieAll 54 = .ok (.aload_n 0, 1) := dk_42 (dk_at dksX7_dieAll_2 7 rfl rfl)
theorem dX7_dieAll_55 : decode cX7_dieAll 55 = .ok (.getfield 21, 3) := dk_180 0 21 (dk_at dksX7_dieAll_2 8 rfl rfl)
theorem dX7_dieAll_58 : decode cX7_dieAll 58 = .ok (.bipush 42, 2) := dk_16 42 (dk_at dksX7_dieAll_2 11 rfl rfl)
theorem dX7_dieAll_60 : decode cX7_dieAll 60 = .ok (.dup2, 1) := dk_92 (dk_at dksX7_dieAll_2 13 rfl rfl)
theorem dX7_dieAll_61 : decode cX7_dieAll 61 = .ok (.iaload, 1) := dk_46 (dk_at dksX7_dieAll_2 14 rfl rfl)
theorem dX7_dieAll_62 : decode cX7_dieAll 62 = .ok (.iload_n 1, 1) := dk_27 (dk_at dksX7_dieAll_2 15 rfl rfl)
theorem dX7_dieAll_63 : decode cX7_dieAll 63 = .ok (.iconst (-1), 1) := dk_2 (dk_at dksX7_dieAll_2 16 rfl rfl)
theorem dX7_dieAll_64 : decode cX7_dieAll 64 = .ok (.ixor, 1) := dk_130 (dk_at dksX7_dieAll_2 17 rfl rfl)
theorem dX7_dieAll_65 : decode cX7_dieAll 65 = .ok (.iand, 1) := dk_126 (dk_at dksX7_dieAll_2 18 rfl rfl)
theorem dX7_dieAll_66 : decode cX7_dieAll 66 = .ok (.iastore, 1) := dk_79 (dk_at dksX7_dieAll_2 19 rfl rfl)
theorem dX7_dieAll_67 : decode cX7_dieAll 67 = .ok (.iload_n 2, 1) := dk_28 (dk_at dksX7_dieAll_2 20 rfl rfl)
theorem dX7_dieAll_68 : decode cX7_dieAll 68 = .ok (.ifCond .eq 14, 3) := dk_153 0 14 (dk_at dksX7_dieAll_2 21 rfl rfl)
theorem dX7_dieAll_71 : decode cX7_dieAll 71 = .ok (.aload_n 0, 1) := dk_42 (dk_at dksX7_dieAll_3 0 rfl rfl)
theorem dX7_dieAll_72 : decode cX7_dieAll 72 = .ok (.getfield 21, 3) := dk_180 0 21 (dk_at dksX7_dieAll_3 1 rfl rfl)
theorem dX7_dieAll_75 : decode cX7_dieAll 75 = .ok (.bipush 45, 2) := dk_16 45 (dk_at dksX7_dieAll_3 4 rfl rfl)
theorem dX7_dieAll_77 : decode cX7_dieAll 77 = .ok (.dup2, 1) := dk_92 (dk_at dksX7_dieAll_3 6 rfl rfl)
theorem dX7_dieAll_78 : decode cX7_dieAll 78 = .ok (.iaload, 1) := dk_46 (dk_at dksX7_dieAll_3 7 rfl rfl)
theorem dX7_dieAll_79 : decode cX7_dieAll 79 = .ok (.iconst 1, 1) := dk_4 (dk_at dksX7_dieAll_3 8 rfl rfl)
theorem dX7_dieAll_80 : decode cX7_dieAll 80 = .ok (.iadd, 1) := dk_96 (dk_at dksX7_dieAll_3 9 rfl rfl)
theorem dX7_dieAll_81 : decode cX7_dieAll 81 = .ok (.iastore, 1) := dk_79 (dk_at dksX7_dieAll_3 10 rfl rfl)
theorem dX7_dieAll_82 : decode cX7_dieAll 82 = .ok (.return_, 1) := dk_177 (dk_at dksX7_dieAll_3 11 rfl rfl)
abbrev cX7_lives : ByteArray := prog_14_method_111_code
def yX7_lives : MethodName := ⟨RX7, "lives", "(II)I"⟩
def dkwX7_lives_2 : List UInt8 := [182, 0, 61, 172]
abbrev dktX7_lives_2 : List UInt8 := dkwX7_lives_2 ++ []
def dkwX7_lives_1 : List UInt8 := [29, 158, 0, 9, 42, 29, 182, 0, 57, 172, 42, 27, 28, 182, 1, 198, 42, 42, 180, 0, 21, 16, 42, 46]
abbrev dktX7_lives_1 : List UInt8 := dkwX7_lives_1 ++ dktX7_lives_2
def dkwX7_lives_0 : List UInt8 := [42, 3, 181, 0, 51, 42, 42, 180, 1, 24, 198, 0, 7, 4, 167, 0, 4, 3, 27, 28, 182, 1, 194, 62]
abbrev dktX7_lives_0 : List UInt8 := dkwX7_lives_0 ++ dktX7_lives_1
theorem dksX7_lives_0 : cX7_lives.data.toList.drop 0 = dktX7_lives_0 := by decide +kernel
theorem dksX7_lives_1 : cX7_lives.data.toList.drop 24 = dktX7_lives_1 := dk_seg dksX7_lives_0 24 rfl rfl
theorem dksX7_lives_2 : cX7_lives.data.toList.drop 48 = dktX7_lives_2 := dk_seg dksX7_lives_1 24 rfl rfl
theorem dX7_lives_0 : decode cX7_lives 0 = .ok (.aload_n 0, 1) := dk_42 (dk_at dksX7_lives_0 0 rfl rfl)
theorem dX7_lives_1 : decode cX7_lives 1 = .ok (.iconst 0, 1) := dk_3 (dk_at dksX7_lives_0 1 rfl rfl)
theorem dX7_lives_2 : decode cX7_lives 2 = .ok (.putfield 51, 3) := dk_181 0 51 (dk_at dksX7_lives_0 2 rfl rfl)
theorem dX7_lives_5 : decode cX7_lives 5 = .ok (.aload_n 0, 1) := dk_42 (dk_at dksX7_lives_0 5 rfl rfl)
theorem dX7_lives_6 : decode cX7_lives 6 = .ok (.aload_n 0, 1) := dk_42 (dk_at dksX7_lives_0 6 rfl rfl)
theorem dX7_lives_7 : decode cX7_lives 7 = .ok (.getfield 280, 3) := dk_180 1 24 (dk_at dksX7_lives_0 7 rfl rfl)
theorem dX7_lives_10 : decode cX7_lives 10 = .ok (.ifnull 7, 3) := dk_198 0 7 (dk_at dksX7_lives_0 10 rfl rfl)
theorem dX7_lives_13 : decode cX7_lives 13 = .ok (.iconst 1, 1) := dk_4 (dk_at dksX7_lives_0 13 rfl rfl)
theorem dX7_lives_14 : decode cX7_lives 14 = .ok (.goto 4, 3) := dk_167 0 4 (dk_at dksX7_lives_0 14 rfl rfl)
theorem dX7_lives_17 : decode cX7_lives 17 = .ok (.iconst 0, 1) := dk_3 (dk_at dksX7_lives_0 17 rfl rfl)
theorem dX7_lives_18 : decode cX7_lives 18 = .ok (.iload_n 1, 1) := dk_27 (dk_at dksX7_lives_0 18 rfl rfl)
theorem dX7_lives_19 : decode cX7_lives 19 = .ok (.iload_n 2, 1) := dk_28 (dk_at dksX7_lives_0 19 rfl rfl)
theorem dX7_lives_20 : decode cX7_lives 20 = .ok (.invokevirtual 450, 3) := dk_182 1 194 (dk_at dksX7_lives_0 20 rfl rfl)
theorem dX7_lives_23 : decode cX7_lives 23 = .ok (.istore_n 3, 1) := dk_62 (dk_at dksX7_lives_0 23 rfl rfl)
theorem dX7_lives_24 : decode cX7_lives 24 = .ok (.iload_n 3, 1) := dk_29 (dk_at dksX7_lives_1 0 rfl rfl)
theorem dX7_lives_25 : decode cX7_lives 25 = .ok (.ifCond .le 9, 3) := dk_158 0 9 (dk_at dksX7_lives_1 1 rfl rfl)
theorem dX7_lives_28 : decode cX7_lives 28 = .ok (.aload_n 0, 1) := dk_42 (dk_at dksX7_lives_1 4 rfl rfl)
theorem dX7_lives_29 : decode cX7_lives 29 = .ok (.iload_n 3, 1) := dk_29 (dk_at dksX7_lives_1 5 rfl rfl)
theorem dX7_lives_30 : decode cX7_lives 30 = .ok (.invokevirtual 57, 3) := dk_182 0 57 (dk_at dksX7_lives_1 6 rfl rfl)
theorem dX7_lives_33 : decode cX7_lives 33 = .ok (.ireturn, 1) := dk_172 (dk_at dksX7_lives_1 9 rfl rfl)
theorem dX7_lives_34 : decode cX7_lives 34 = .ok (.aload_n 0, 1) := dk_42 (dk_at dksX7_lives_1 10 rfl rfl)
theorem dX7_lives_35 : decode cX7_lives 35 = .ok (.iload_n 1, 1) := dk_27 (dk_at dksX7_lives_1 11 rfl rfl)
theorem dX7_lives_36 : decode cX7_lives 36 = .ok (.iload_n 2, 1) := dk_28 (dk_at dksX7_lives_1 12 rfl rfl)
theorem dX7_lives_37 : decode cX7_lives 37 = .ok (.invokevirtual 454, 3) := dk_182 1 198 (dk_at dksX7_lives_1 13 rfl rfl)
theorem dX7_lives_40 : decode cX7_lives 40 = .ok (.aload_n 0, 1) := dk_42 (dk_at dksX7_lives_1 16 rfl rfl)
theorem dX7_lives_41 : decode cX7_lives 41 = .ok (.aload_n 0, 1) := dk_42 (dk_at dksX7_lives_1 17 rfl rfl)
theorem dX7_lives_42 : decode cX7_lives 42 = .ok (.getfield 21, 3) := dk_180 0 21 (dk_at dksX7_lives_1 18 rfl rfl)
theorem dX7_lives_45 : decode cX7_lives 45 = .ok (.bipush 42, 2) := dk_16 42 (dk_at dksX7_lives_1 21 rfl rfl)
theorem dX7_lives_47 : decode cX7_lives 47 = .ok (.iaload, 1) := dk_46 (dk_at dksX7_lives_1 23 rfl rfl)
theorem dX7_lives_48 : decode cX7_lives 48 = .ok (.invokevirtual 61, 3) := dk_182 0 61 (dk_at dksX7_lives_2 0 rfl rfl)
theorem dX7_lives_51 : decode cX7_lives 51 = .ok (.ireturn, 1) := dk_172 (dk_at dksX7_lives_2 3 rfl rfl)
abbrev cX7_firstCat : ByteArray := prog_14_method_112_code
def yX7_firstCat : MethodName := ⟨RX7, "firstCat", "(II)I"⟩
def dkwX7_firstCat_2 : List UInt8 := [172]
abbrev dktX7_firstCat_2 : List UInt8 := dkwX7_firstCat_2 ++ []
def dkwX7_firstCat_1 : List UInt8 := [29, 158, 0, 9, 42, 29, 182, 0, 57, 172, 42, 27, 28, 182, 1, 198, 42, 42, 180, 1, 186, 182, 0, 61]
abbrev dktX7_firstCat_1 : List UInt8 := dkwX7_firstCat_1 ++ dktX7_firstCat_2
def dkwX7_firstCat_0 : List UInt8 := [42, 3, 181, 0, 51, 42, 42, 180, 1, 24, 198, 0, 7, 4, 167, 0, 4, 3, 27, 28, 182, 1, 194, 62]
abbrev dktX7_firstCat_0 : List UInt8 := dkwX7_firstCat_0 ++ dktX7_firstCat_1
theorem dksX7_firstCat_0 : cX7_firstCat.data.toList.drop 0 = dktX7_firstCat_0 := by decide +kernel
theorem dksX7_firstCat_1 : cX7_firstCat.data.toList.drop 24 = dktX7_firstCat_1 := dk_seg dksX7_firstCat_0 24 rfl rfl
theorem dksX7_firstCat_2 : cX7_firstCat.data.toList.drop 48 = dktX7_firstCat_2 := dk_seg dksX7_firstCat_1 24 rfl rfl
theorem dX7_firstCat_0 : decode cX7_firstCat 0 = .ok (.aload_n 0, 1) := dk_42 (dk_at dksX7_firstCat_0 0 rfl rfl)
theorem dX7_firstCat_1 : decode cX7_firstCat 1 = .ok (.iconst 0, 1) := dk_3 (dk_at dksX7_firstCat_0 1 rfl rfl)
theorem dX7_firstCat_2 : decode cX7_firstCat 2 = .ok (.putfield 51, 3) := dk_181 0 51 (dk_at dksX7_firstCat_0 2 rfl rfl)
theorem dX7_firstCat_5 : decode cX7_firstCat 5 = .ok (.aload_n 0, 1) := dk_42 (dk_at dksX7_firstCat_0 5 rfl rfl)
theorem dX7_firstCat_6 : decode cX7_firstCat 6 = .ok (.aload_n 0, 1) := dk_42 (dk_at dksX7_firstCat_0 6 rfl rfl)
theorem dX7_firstCat_7 : decode cX7_firstCat 7 = .ok (.getfield 280, 3) := dk_180 1 24 (dk_at dksX7_firstCat_0 7 rfl rfl)
theorem dX7_firstCat_10 : decode cX7_firstCat 10 = .ok (.ifnull 7, 3) := dk_198 0 7 (dk_at dksX7_firstCat_0 10 rfl rfl)
theorem dX7_firstCat_13 : decode cX7_firstCat 13 = .ok (.iconst 1, 1) := dk_4 (dk_at dksX7_firstCat_0 13 rfl rfl)
theorem dX7_firstCat_14 : decode cX7_firstCat 14 = .ok (.goto 4, 3) := dk_167 0 4 (dk_at dksX7_firstCat_0 14 rfl rfl)
theorem dX7_firstCat_17 : decode cX7_firstCat 17 = .ok (.iconst 0, 1) := dk_3 (dk_at dksX7_firstCat_0 17 rfl rfl)
theorem dX7_firstCat_18 : decode cX7_firstCat 18 = .ok (.iload_n 1, 1) := dk_27 (dk_at dksX7_firstCat_0 18 rfl rfl)
theorem dX7_firstCat_19 : decode cX7_firstCat 19 = .ok (.iload_n 2, 1) := dk_28 (dk_at dksX7_firstCat_0 19 rfl rfl)
theorem dX7_firstCat_20 : decode cX7_firstCat 20 = .ok (.invokevirtual 450, 3) := dk_182 1 194 (dk_at dksX7_firstCat_0 20 rfl rfl)
theorem dX7_firstCat_23 : decode cX7_firstCat 23 = .ok (.istore_n 3, 1) := dk_62 (dk_at dksX7_firstCat_0 23 rfl rfl)
theorem dX7_firstCat_24 : decode cX7_firstCat 24 = .ok (.iload_n 3, 1) := dk_29 (dk_at dksX7_firstCat_1 0 rfl rfl)
theorem dX7_firstCat_25 : decode cX7_firstCat 25 = .ok (.ifCond .le 9, 3) := dk_158 0 9 (dk_at dksX7_firstCat_1 1 rfl rfl)
theorem dX7_firstCat_28 : decode cX7_firstCat 28 = .ok (.aload_n 0, 1) := dk_42 (dk_at dksX7_firstCat_1 4 rfl rfl)
theorem dX7_firstCat_29 : decode cX7_firstCat 29 = .ok (.iload_n 3, 1) := dk_29 (dk_at dksX7_firstCat_1 5 rfl rfl)
theorem dX7_firstCat_30 : decode cX7_firstCat 30 = .ok (.invokevirtual 57, 3) := dk_182 0 57 (dk_at dksX7_firstCat_1 6 rfl rfl)
theorem dX7_firstCat_33 : decode cX7_firstCat 33 = .ok (.ireturn, 1) := dk_172 (dk_at dksX7_firstCat_1 9 rfl rfl)
theorem dX7_firstCat_34 : decode cX7_firstCat 34 = .ok (.aload_n 0, 1) := dk_42 (dk_at dksX7_firstCat_1 10 rfl rfl)
theorem dX7_firstCat_35 : decode cX7_firstCat 35 = .ok (.iload_n 1, 1) := dk_27 (dk_at dksX7_firstCat_1 11 rfl rfl)
theorem dX7_firstCat_36 : decode cX7_firstCat 36 = .ok (.iload_n 2, 1) := dk_28 (dk_at dksX7_firstCat_1 12 rfl rfl)
theorem dX7_firstCat_37 : decode cX7_firstCat 37 = .ok (.invokevirtual 454, 3) := dk_182 1 198 (dk_at dksX7_firstCat_1 13 rfl rfl)
theorem dX7_firstCat_40 : decode cX7_firstCat 40 = .ok (.aload_n 0, 1) := dk_42 (dk_at dksX7_firstCat_1 16 rfl rfl)
theorem dX7_firstCat_41 : decode cX7_firstCat 41 = .ok (.aload_n 0, 1) := dk_42 (dk_at dksX7_firstCat_1 17 rfl rfl)
theorem dX7_firstCat_42 : decode cX7_firstCat 42 = .ok (.getfield 442, 3) := dk_180 1 186 (dk_at dksX7_firstCat_1 18 rfl rfl)
theorem dX7_firstCat_45 : decode cX7_firstCat 45 = .ok (.invokevirtual 61, 3) := dk_182 0 61 (dk_at dksX7_firstCat_1 21 rfl rfl)
theorem dX7_firstCat_48 : decode cX7_firstCat 48 = .ok (.ireturn, 1) := dk_172 (dk_at dksX7_firstCat_2 0 rfl rfl)
abbrev cX7_ask : ByteArray := prog_14_method_115_code
def yX7_ask : MethodName := ⟨RX7, "ask", "(II)I"⟩
def dkwX7_ask_5 : List UInt8 := [180, 0, 17, 27, 46, 29, 100, 182, 0, 61, 172]
abbrev dktX7_ask_5 : List UInt8 := dkwX7_ask_5 ++ []
def dkwX7_ask_4 : List UInt8 := [42, 182, 1, 59, 42, 180, 0, 21, 27, 46, 62, 42, 27, 28, 182, 1, 112, 42, 182, 1, 204, 42, 42]
abbrev dktX7_ask_4 : List UInt8 := dkwX7_ask_4 ++ dktX7_ask_5
def dkwX7_ask_3 : List UInt8 := [172, 42, 180, 0, 17, 16, 44, 46, 17, 3, 231, 160, 0, 9, 42, 6, 182, 0, 57, 172, 42, 182, 1, 201]
abbrev dktX7_ask_3 : List UInt8 := dkwX7_ask_3 ++ dktX7_ask_4
def dkwX7_ask_2 : List UInt8 := [42, 8, 182, 0, 57, 172, 42, 180, 1, 24, 27, 28, 182, 0, 244, 154, 0, 10, 42, 16, 6, 182, 0, 57]
abbrev dktX7_ask_2 : List UInt8 := dkwX7_ask_2 ++ dktX7_ask_3
def dkwX7_ask_1 : List UInt8 := [16, 42, 46, 27, 184, 0, 235, 153, 0, 17, 42, 180, 0, 17, 16, 42, 46, 28, 184, 0, 235, 154, 0, 9]
abbrev dktX7_ask_1 : List UInt8 := dkwX7_ask_1 ++ dktX7_ask_2
def dkwX7_ask_0 : List UInt8 := [42, 3, 181, 0, 51, 42, 27, 28, 182, 1, 70, 154, 0, 9, 42, 4, 182, 0, 57, 172, 42, 180, 0, 17]
abbrev dktX7_ask_0 : List UInt8 := dkwX7_ask_0 ++ dktX7_ask_1
theorem dksX7_ask_0 : cX7_ask.data.toList.drop 0 = dktX7_ask_0 := by decide +kernel
theorem dksX7_ask_1 : cX7_ask.data.toList.drop 24 = dktX7_ask_1 := dk_seg dksX7_ask_0 24 rfl rfl
theorem dksX7_ask_2 : cX7_ask.data.toList.drop 48 = dktX7_ask_2 := dk_seg dksX7_ask_1 24 rfl rfl
theorem dksX7_ask_3 : cX7_ask.data.toList.drop 72 = dktX7_ask_3 := dk_seg dksX7_ask_2 24 rfl rfl
theorem dksX7_ask_4 : cX7_ask.data.toList.drop 96 = dktX7_ask_4 := dk_seg dksX7_ask_3 24 rfl rfl
theorem dksX7_ask_5 : cX7_ask.data.toList.drop 119 = dktX7_ask_5 := dk_seg dksX7_ask_4 23 rfl rfl
theorem dX7_ask_0 : decode cX7_ask 0 = .ok (.aload_n 0, 1) := dk_42 (dk_at dksX7_ask_0 0 rfl rfl)
theorem dX7_ask_1 : decode cX7_ask 1 = .ok (.iconst 0, 1) := dk_3 (dk_at dksX7_ask_0 1 rfl rfl)
theorem dX7_ask_2 : decode cX7_ask 2 = .ok (.putfield 51, 3) := dk_181 0 51 (dk_at dksX7_ask_0 2 rfl rfl)
theorem dX7_ask_5 : decode cX7_ask 5 = .ok (.aload_n 0, 1) := dk_42 (dk_at dksX7_ask_0 5 rfl rfl)
theorem dX7_ask_6 : decode cX7_ask 6 = .ok (.iload_n 1, 1) := dk_27 (dk_at dksX7_ask_0 6 rfl rfl)
theorem dX7_ask_7 : decode cX7_ask 7 = .ok (.iload_n 2, 1) := dk_28 (dk_at dksX7_ask_0 7 rfl rfl)
theorem dX7_ask_8 : decode cX7_ask 8 = .ok (.invokevirtual 326, 3) := dk_182 1 70 (dk_at dksX7_ask_0 8 rfl rfl)
theorem dX7_ask_11 : decode cX7_ask 11 = .ok (.ifCond .ne 9, 3) := dk_154 0 9 (dk_at dksX7_ask_0 11 rfl rfl)
theorem dX7_ask_14 : decode cX7_ask 14 = .ok (.aload_n 0, 1) := dk_42 (dk_at dksX7_ask_0 14 rfl rfl)
theorem dX7_ask_15 : decode cX7_ask 15 = .ok (.iconst 1, 1) := dk_4 (dk_at dksX7_ask_0 15 rfl rfl)
theorem dX7_ask_16 : decode cX7_ask 16 = .ok (.invokevirtual 57, 3) := dk_182 0 57 (dk_at dksX7_ask_0 16 rfl rfl)
theorem dX7_ask_19 : decode cX7_ask 19 = .ok (.ireturn, 1) := dk_172 (dk_at dksX7_ask_0 19 rfl rfl)
theorem dX7_ask_20 : decode cX7_ask 20 = .ok (.aload_n 0, 1) := dk_42 (dk_at dksX7_ask_0 20 rfl rfl)
theorem dX7_ask_21 : decode cX7_ask 21 = .ok (.getfield 17, 3) := dk_180 0 17 (dk_at dksX7_ask_0 21 rfl rfl)
theorem dX7_ask_24 : decode cX7_ask 24 = .ok (.bipush 42, 2) := dk_16 42 (dk_at dksX7_ask_1 0 rfl rfl)
theorem dX7_ask_26 : decode cX7_ask 26 = .ok (.iaload, 1) := dk_46 (dk_at dksX7_ask_1 2 rfl rfl)
theorem dX7_ask_27 : decode cX7_ask 27 = .ok (.iload_n 1, 1) := dk_27 (dk_at dksX7_ask_1 3 rfl rfl)
theorem dX7_ask_28 : decode cX7_ask 28 = .ok (.invokestatic 235, 3) := dk_184 0 235 (dk_at dksX7_ask_1 4 rfl rfl)
theorem dX7_ask_31 : decode cX7_ask 31 = .ok (.ifCond .eq 17, 3) := dk_153 0 17 (dk_at dksX7_ask_1 7 rfl rfl)
theorem dX7_ask_34 : decode cX7_ask 34 = .ok (.aload_n 0, 1) := dk_42 (dk_at dksX7_ask_1 10 rfl rfl)
theorem dX7_ask_35 : decode cX7_ask 35 = .ok (.getfield 17, 3) := dk_180 0 17 (dk_at dksX7_ask_1 11 rfl rfl)
theorem dX7_ask_38 : decode cX7_ask 38 = .ok (.bipush 42, 2) := dk_16 42 (dk_at dksX7_ask_1 14 rfl rfl)
theorem dX7_ask_40 : decode cX7_ask 40 = .ok (.iaload, 1) := dk_46 (dk_at dksX7_ask_1 16 rfl rfl)
theorem dX7_ask_41 : decode cX7_ask 41 = .ok (.iload_n 2, 1) := dk_28 (dk_at dksX7_ask_1 17 rfl rfl)
theorem dX7_ask_42 : decode cX7_ask 42 = .ok (.invokestatic 235, 3) := dk_184 0 235 (dk_at dksX7_ask_1 18 rfl rfl)
theorem dX7_ask_45 : decode cX7_ask 45 = .ok (.ifCond .ne 9, 3) := dk_154 0 9 (dk_at dksX7_ask_1 21 rfl rfl)
theorem dX7_ask_48 : decode cX7_ask 48 = .ok (.aload_n 0, 1) := dk_42 (dk_at dksX7_ask_2 0 rfl rfl)
theorem dX7_ask_49 : decode cX7_ask 49 = .ok (.iconst 5, 1) := dk_8 (dk_at dksX7_ask_2 1 rfl rfl)
theorem dX7_ask_50 : decode cX7_ask 50 = .ok (.invokevirtual 57, 3) := dk_182 0 57 (dk_at dksX7_ask_2 2 rfl rfl)
theorem dX7_ask_53 : decode cX7_ask 53 = .ok (.ireturn, 1) := dk_172 (dk_at dksX7_ask_2 5 rfl rfl)
theorem dX7_ask_54 : decode cX7_ask 54 = .ok (.aload_n 0, 1) := dk_42 (dk_at dksX7_ask_2 6 rfl rfl)
theorem dX7_ask_55 : decode cX7_ask 55 = .ok (.getfield 280, 3) := dk_180 1 24 (dk_at dksX7_ask_2 7 rfl rfl)
theorem dX7_ask_58 : decode cX7_ask 58 = .ok (.iload_n 1, 1) := dk_27 (dk_at dksX7_ask_2 10 rfl rfl)
theorem dX7_ask_59 : decode cX7_ask 59 = .ok (.iload_n 2, 1) := dk_28 (dk_at dksX7_ask_2 11 rfl rfl)
theorem dX7_ask_60 : decode cX7_ask 60 = .ok (.invokevirtual 244, 3) := dk_182 0 244 (dk_at dksX7_ask_2 12 rfl rfl)
theorem dX7_ask_63 : decode cX7_ask 63 = .ok (.ifCond .ne 10, 3) := dk_154 0 10 (dk_at dksX7_ask_2 15 rfl rfl)
theorem dX7_ask_66 : decode cX7_ask 66 = .ok (.aload_n 0, 1) := dk_42 (dk_at dksX7_ask_2 18 rfl rfl)
theorem dX7_ask_67 : decode cX7_ask 67 = .ok (.bipush 6, 2) := dk_16 6 (dk_at dksX7_ask_2 19 rfl rfl)
theorem dX7_ask_69 : decode cX7_ask 69 = .ok (.invokevirtual 57, 3) := dk_182 0 57 (dk_at dksX7_ask_2 21 rfl rfl)
theorem dX7_ask_72 : decode cX7_ask 72 = .ok (.ireturn, 1) := dk_172 (dk_at dksX7_ask_3 0 rfl rfl)
theorem dX7_ask_73 : decode cX7_ask 73 = .ok (.aload_n 0, 1) := dk_42 (dk_at dksX7_ask_3 1 rfl rfl)
theorem dX7_ask_74 : decode cX7_ask 74 = .ok (.getfield 17, 3) := dk_180 0 17 (dk_at dksX7_ask_3 2 rfl rfl)
theorem dX7_ask_77 : decode cX7_ask 77 = .ok (.bipush 44, 2) := dk_16 44 (dk_at dksX7_ask_3 5 rfl rfl)
theorem dX7_ask_79 : decode cX7_ask 79 = .ok (.iaload, 1) := dk_46 (dk_at dksX7_ask_3 7 rfl rfl)
theorem dX7_ask_80 : decode cX7_ask 80 = .ok (.sipush 999, 3) := dk_17 3 231 (dk_at dksX7_ask_3 8 rfl rfl)
theorem dX7_ask_83 : decode cX7_ask 83 = .ok (.if_icmp .ne 9, 3) := dk_160 0 9 (dk_at dksX7_ask_3 11 rfl rfl)
theorem dX7_ask_86 : decode cX7_ask 86 = .ok (.aload_n 0, 1) := dk_42 (dk_at dksX7_ask_3 14 rfl rfl)
theorem dX7_ask_87 : decode cX7_ask 87 = .ok (.iconst 3, 1) := dk_6 (dk_at dksX7_ask_3 15 rfl rfl)
theorem dX7_ask_88 : decode cX7_ask 88 = .ok (.invokevirtual 57, 3) := dk_182 0 57 (dk_at dksX7_ask_3 16 rfl rfl)
theorem dX7_ask_91 : decode cX7_ask 91 = .ok (.ireturn, 1) := dk_172 (dk_at dksX7_ask_3 19 rfl rfl)
theorem dX7_ask_92 : decode cX7_ask 92 = .ok (.aload_n 0, 1) := dk_42 (dk_at dksX7_ask_3 20 rfl rfl)
theorem dX7_ask_93 : decode cX7_ask 93 = .ok (.invokevirtual 457, 3) := dk_182 1 201 (dk_at dksX7_ask_3 21 rfl rfl)
theorem dX7_ask_96 : decode cX7_ask 96 = .ok (.aload_n 0, 1) := dk_42 (dk_at dksX7_ask_4 0 rfl rfl)
theorem dX7_ask_97 : decode cX7_ask 97 = .ok (.invokevirtual 315, 3) := dk_182 1 59 (dk_at dksX7_ask_4 1 rfl rfl)
theorem dX7_ask_100 : decode cX7_ask 100 = .ok (.aload_n 0, 1) := dk_42 (dk_at dksX7_ask_4 4 rfl rfl)
theorem dX7_ask_101 : decode cX7_ask 101 = .ok (.getfield 21, 3) := dk_180 0 21 (dk_at dksX7_ask_4 5 rfl rfl)
theorem dX7_ask_104 : decode cX7_ask 104 = .ok (.iload_n 1, 1) := dk_27 (dk_at dksX7_ask_4 8 rfl rfl)
theorem dX7_ask_105 : decode cX7_ask 105 = .ok (.iaload, 1) := dk_46 (dk_at dksX7_ask_4 9 rfl rfl)
theorem dX7_ask_106 : decode cX7_ask 106 = .ok (.istore_n 3, 1) := dk_62 (dk_at dksX7_ask_4 10 rfl rfl)
theorem dX7_ask_107 : decode cX7_ask 107 = .ok (.aload_n 0, 1) := dk_42 (dk_at dksX7_ask_4 11 rfl rfl)
theorem dX7_ask_108 : decode cX7_ask 108 = .ok (.iload_n 1, 1) := dk_27 (dk_at dksX7_ask_4 12 rfl rfl)
theorem dX7_ask_109 : decode cX7_ask 109 = .ok (.iload_n 2, 1) := dk_28 (dk_at dksX7_ask_4 13 rfl rfl)
theorem dX7_ask_110 : decode cX7_ask 110 = .ok (.invokevirtual 368, 3) := dk_182 1 112 (dk_at dksX7_ask_4 14 rfl rfl)
theorem dX7_ask_113 : decode cX7_ask 113 = .ok (.aload_n 0, 1) := dk_42 (dk_at dksX7_ask_4 17 rfl rfl)
theorem dX7_ask_114 : decode cX7_ask 114 = .ok (.invokevirtual 460, 3) := dk_182 1 204 (dk_at dksX7_ask_4 18 rfl rfl)
theorem dX7_ask_117 : decode cX7_ask 117 = .ok (.aload_n 0, 1) := dk_42 (dk_at dksX7_ask_4 21 rfl rfl)
theorem dX7_ask_118 : decode cX7_ask 118 = .ok (.aload_n 0, 1) := dk_42 (dk_at dksX7_ask_4 22 rfl rfl)
theorem dX7_ask_119 : decode cX7_ask 119 = .ok (.getfield 17, 3) := dk_180 0 17 (dk_at dksX7_ask_5 0 rfl rfl)
theorem dX7_ask_122 : decode cX7_ask 122 = .ok (.iload_n 1, 1) := dk_27 (dk_at dksX7_ask_5 3 rfl rfl)
theorem dX7_ask_123 : decode cX7_ask 123 = .ok (.iaload, 1) := dk_46 (dk_at dksX7_ask_5 4 rfl rfl)
theorem dX7_ask_124 : decode cX7_ask 124 = .ok (.iload_n 3, 1) := dk_29 (dk_at dksX7_ask_5 5 rfl rfl)
theorem dX7_ask_125 : decode cX7_ask 125 = .ok (.isub, 1) := dk_100 (dk_at dksX7_ask_5 6 rfl rfl)
theorem dX7_ask_126 : decode cX7_ask 126 = .ok (.invokevirtual 61, 3) := dk_182 0 61 (dk_at dksX7_ask_5 7 rfl rfl)
theorem dX7_ask_129 : decode cX7_ask 129 = .ok (.ireturn, 1) := dk_172 (dk_at dksX7_ask_5 10 rfl rfl)
abbrev cX7_remembers : ByteArray := prog_14_method_113_code
def yX7_remembers : MethodName := ⟨RX7, "remembers", "()V"⟩
def dkwX7_remembers_3 : List UInt8 := [42, 180, 0, 17, 27, 46, 79, 132, 1, 1, 167, 255, 227, 42, 89, 180, 1, 29, 4, 96, 181, 1, 29, 177]
abbrev dktX7_remembers_3 : List UInt8 := dkwX7_remembers_3 ++ []
def dkwX7_remembers_2 : List UInt8 := [181, 1, 29, 3, 60, 27, 16, 47, 162, 0, 29, 42, 180, 0, 24, 16, 47, 42, 180, 1, 29, 104, 27, 96]
abbrev dktX7_remembers_2 : List UInt8 := dkwX7_remembers_2 ++ dktX7_remembers_3
def dkwX7_remembers_1 : List UInt8 := [180, 0, 24, 27, 16, 47, 96, 46, 79, 132, 1, 1, 167, 255, 231, 42, 89, 180, 1, 29, 4, 100]
abbrev dktX7_remembers_1 : List UInt8 := dkwX7_remembers_1 ++ dktX7_remembers_2
def dkwX7_remembers_0 : List UInt8 := [42, 180, 1, 29, 16, 16, 160, 0, 43, 3, 60, 27, 17, 2, 193, 162, 0, 24, 42, 180, 0, 24, 27, 42]
abbrev dktX7_remembers_0 : List UInt8 := dkwX7_remembers_0 ++ dktX7_remembers_1
theorem dksX7_remembers_0 : cX7_remembers.data.toList.drop 0 = dktX7_remembers_0 := by decide +kernel
theorem dksX7_remembers_1 : cX7_remembers.data.toList.drop 24 = dktX7_remembers_1 := dk_seg dksX7_remembers_0 24 rfl rfl
theorem dksX7_remembers_2 : cX7_remembers.data.toList.drop 46 = dktX7_remembers_2 := dk_seg dksX7_remembers_1 22 rfl rfl
theorem dksX7_remembers_3 : cX7_remembers.data.toList.drop 70 = dktX7_remembers_3 := dk_seg dksX7_remembers_2 24 rfl rfl
theorem dX7_remembers_0 : decode cX7_remembers 0 = .ok (.aload_n 0, 1) := dk_42 (dk_at dksX7_remembers_0 0 rfl rfl)
theorem dX7_remembers_1 : decode cX7_remembers 1 = .ok (.getfield 285, 3) := dk_180 1 29 (dk_at dksX7_remembers_0 1 rfl rfl)
theorem dX7_remembers_4 : decode cX7_remembers 4 = .ok (.bipush 16, 2) := dk_16 16 (dk_at dksX7_remembers_0 4 rfl rfl)
theorem dX7_remembers_6 : decode cX7_remembers 6 = .ok (.if_icmp .ne 43, 3) := dk_160 0 43 (dk_at dksX7_remembers_0 6 rfl rfl)
theorem dX7_remembers_9 : decode cX7_remembers 9 = .ok (.iconst 0, 1) := dk_3 (dk_at dksX7_remembers_0 9 rfl rfl)
theorem dX7_remembers_10 : decode cX7_remembers 10 = .ok (.istore_n 1, 1) := dk_60 (dk_at dksX7_remembers_0 10 rfl rfl)
theorem dX7_remembers_11 : decode cX7_remembers 11 = .ok (.iload_n 1, 1) := dk_27 (dk_at dksX7_remembers_0 11 rfl rfl)
theorem dX7_remembers_12 : decode cX7_remembers 12 = .ok (.sipush 705, 3) := dk_17 2 193 (dk_at dksX7_remembers_0 12 rfl rfl)
theorem dX7_remembers_15 : decode cX7_remembers 15 = .ok (.if_icmp .ge 24, 3) := dk_162 0 24 (dk_at dksX7_remembers_0 15 rfl rfl)
theorem dX7_remembers_18 : decode cX7_remembers 18 = .ok (.aload_n 0, 1) := dk_42 (dk_at dksX7_remembers_0 18 rfl rfl)
theorem dX7_remembers_19 : decode cX7_remembers 19 = .ok (.getfield 24, 3) := dk_180 0 24 (dk_at dksX7_remembers_0 19 rfl rfl)
theorem dX7_remembers_22 : decode cX7_remembers 22 = .ok (.iload_n 1, 1) := dk_27 (dk_at dksX7_remembers_0 22 rfl rfl)
theorem dX7_remembers_23 : decode cX7_remembers 23 = .ok (.aload_n 0, 1) := dk_42 (dk_at dksX7_remembers_0 23 rfl rfl)
theorem dX7_remembers_24 : decode cX7_remembers 24 = .ok (.getfield 24, 3) := dk_180 0 24 (dk_at dksX7_remembers_1 0 rfl rfl)
theorem dX7_remembers_27 : decode cX7_remembers 27 = .ok (.iload_n 1, 1) := dk_27 (dk_at dksX7_remembers_1 3 rfl rfl)
theorem dX7_remembers_28 : decode cX7_remembers 28 = .ok (.bipush 47, 2) := dk_16 47 (dk_at dksX7_remembers_1 4 rfl rfl)
theorem dX7_remembers_30 : decode cX7_remembers 30 = .ok (.iadd, 1) := dk_96 (dk_at dksX7_remembers_1 6 rfl rfl)
theorem dX7_remembers_31 : decode cX7_remembers 31 = .ok (.iaload, 1) := dk_46 (dk_at dksX7_remembers_1 7 rfl rfl)
theorem dX7_remembers_32 : decode cX7_remembers 32 = .ok (.iastore, 1) := dk_79 (dk_at dksX7_remembers_1 8 rfl rfl)
theorem dX7_remembers_33 : decode cX7_remembers 33 = .ok (.iinc 1 1, 3) := dk_132 1 1 (dk_at dksX7_remembers_1 9 rfl rfl)
theorem dX7_remembers_36 : decode cX7_remembers 36 = .ok (.goto (-25), 3) := dk_167 255 231 (dk_at dksX7_remembers_1 12 rfl rfl)
theorem dX7_remembers_39 : decode cX7_remembers 39 = .ok (.aload_n 0, 1) := dk_42 (dk_at dksX7_remembers_1 15 rfl rfl)
theorem dX7_remembers_40 : decode cX7_remembers 40 = .ok (.dup, 1) := dk_89 (dk_at dksX7_remembers_1 16 rfl rfl)
theorem dX7_remembers_41 : decode cX7_remembers 41 = .ok (.getfield 285, 3) := dk_180 1 29 (dk_at dksX7_remembers_1 17 rfl rfl)
theorem dX7_remembers_44 : decode cX7_remembers 44 = .ok (.iconst 1, 1) := dk_4 (dk_at dksX7_remembers_1 20 rfl rfl)
theorem dX7_remembers_45 : decode cX7_remembers 45 = .ok (.isub, 1) := dk_100 (dk_at dksX7_remembers_1 21 rfl rfl)
theorem dX7_remembers_46 : decode cX7_remembers 46 = .ok (.putfield 285, 3) := dk_181 1 29 (dk_at dksX7_remembers_2 0 rfl rfl)
theorem dX7_remembers_49 : decode cX7_remembers 49 = .ok (.iconst 0, 1) := dk_3 (dk_at dksX7_remembers_2 3 rfl rfl)
theorem dX7_remembers_50 : decode cX7_remembers 50 = .ok (.istore_n 1, 1) := dk_60 (dk_at dksX7_remembers_2 4 rfl rfl)
theorem dX7_remembers_51 : decode cX7_remembers 51 = .ok (.iload_n 1, 1) := dk_27 (dk_at dksX7_remembers_2 5 rfl rfl)
theorem dX7_remembers_52 : decode cX7_remembers 52 = .ok (.bipush 47, 2) := dk_16 47 (dk_at dksX7_remembers_2 6 rfl rfl)
theorem dX7_remembers_54 : decode cX7_remembers 54 = .ok (.if_icmp .ge 29, 3) := dk_162 0 29 (dk_at dksX7_remembers_2 8 rfl rfl)
theorem dX7_remembers_57 : decode cX7_remembers 57 = .ok (.aload_n 0, 1) := dk_42 (dk_at dksX7_remembers_2 11 rfl rfl)
theorem dX7_remembers_58 : decode cX7_remembers 58 = .ok (.getfield 24, 3) := dk_180 0 24 (dk_at dksX7_remembers_2 12 rfl rfl)
theorem dX7_remembers_61 : decode cX7_remembers 61 = .ok (.bipush 47, 2) := dk_16 47 (dk_at dksX7_remembers_2 15 rfl rfl)
theorem dX7_remembers_63 : decode cX7_remembers 63 = .ok (.aload_n 0, 1) := dk_42 (dk_at dksX7_remembers_2 17 rfl rfl)
theorem dX7_remembers_64 : decode cX7_remembers 64 = .ok (.getfield 285, 3) := dk_180 1 29 (dk_at dksX7_remembers_2 18 rfl rfl)
theorem dX7_remembers_67 : decode cX7_remembers 67 = .ok (.imul, 1) := dk_104 (dk_at dksX7_remembers_2 21 rfl rfl)
theorem dX7_remembers_68 : decode cX7_remembers 68 = .ok (.iload_n 1, 1) := dk_27 (dk_at dksX7_remembers_2 22 rfl rfl)
theorem dX7_remembers_69 : decode cX7_remembers 69 = .ok (.iadd, 1) := dk_96 (dk_at dksX7_remembers_2 23 rfl rfl)
theorem dX7_remembers_70 : decode cX7_remembers 70 = .ok (.aload_n 0, 1) := dk_42 (dk_at dksX7_remembers_3 0 rfl rfl)
theorem dX7_remembers_71 : decode cX7_remembers 71 = .ok (.getfield 17, 3) := dk_180 0 17 (dk_at dksX7_remembers_3 1 rfl rfl)
theorem dX7_remembers_74 : decode cX7_remembers 74 = .ok (.iload_n 1, 1) := dk_27 (dk_at dksX7_remembers_3 4 rfl rfl)
theorem dX7_remembers_75 : decode cX7_remembers 75 = .ok (.iaload, 1) := dk_46 (dk_at dksX7_remembers_3 5 rfl rfl)
theorem dX7_remembers_76 : decode cX7_remembers 76 = .ok (.iastore, 1) := dk_79 (dk_at dksX7_remembers_3 6 rfl rfl)
theorem dX7_remembers_77 : decode cX7_remembers 77 = .ok (.iinc 1 1, 3) := dk_132 1 1 (dk_at dksX7_remembers_3 7 rfl rfl)
theorem dX7_remembers_80 : decode cX7_remembers 80 = .ok (.goto (-29), 3) := dk_167 255 227 (dk_at dksX7_remembers_3 10 rfl rfl)
theorem dX7_remembers_83 : decode cX7_remembers 83 = .ok (.aload_n 0, 1) := dk_42 (dk_at dksX7_remembers_3 13 rfl rfl)
theorem dX7_remembers_84 : decode cX7_remembers 84 = .ok (.dup, 1) := dk_89 (dk_at dksX7_remembers_3 14 rfl rfl)
theorem dX7_remembers_85 : decode cX7_remembers 85 = .ok (.getfield 285, 3) := dk_180 1 29 (dk_at dksX7_remembers_3 15 rfl rfl)
theorem dX7_remembers_88 : decode cX7_remembers 88 = .ok (.iconst 1, 1) := dk_4 (dk_at dksX7_remembers_3 18 rfl rfl)
theorem dX7_remembers_89 : decode cX7_remembers 89 = .ok (.iadd, 1) := dk_96 (dk_at dksX7_remembers_3 19 rfl rfl)
theorem dX7_remembers_90 : decode cX7_remembers 90 = .ok (.putfield 285, 3) := dk_181 1 29 (dk_at dksX7_remembers_3 20 rfl rfl)
theorem dX7_remembers_93 : decode cX7_remembers 93 = .ok (.return_, 1) := dk_177 (dk_at dksX7_remembers_3 23 rfl rfl)
abbrev cX7_stays : ByteArray := prog_14_method_114_code
def yX7_stays : MethodName := ⟨RX7, "stays", "()V"⟩
def dkwX7_stays_1 : List UInt8 := [167, 255, 235, 177]
abbrev dktX7_stays_1 : List UInt8 := dkwX7_stays_1 ++ []
def dkwX7_stays_0 : List UInt8 := [3, 60, 27, 16, 47, 162, 0, 21, 42, 180, 0, 17, 27, 42, 180, 0, 21, 27, 46, 79, 132, 1, 1]
abbrev dktX7_stays_0 : List UInt8 := dkwX7_stays_0 ++ dktX7_stays_1
theorem dksX7_stays_0 : cX7_stays.data.toList.drop 0 = dktX7_stays_0 := by decide +kernel
theorem dksX7_stays_1 : cX7_stays.data.toList.drop 23 = dktX7_stays_1 := dk_seg dksX7_stays_0 23 rfl rfl
theorem dX7_stays_0 : decode cX7_stays 0 = .ok (.iconst 0, 1) := dk_3 (dk_at dksX7_stays_0 0 rfl rfl)
theorem dX7_stays_1 : decode cX7_stays 1 = .ok (.istore_n 1, 1) := dk_60 (dk_at dksX7_stays_0 1 rfl rfl)
theorem dX7_stays_2 : decode cX7_stays 2 = .ok (.iload_n 1, 1) := dk_27 (dk_at dksX7_stays_0 2 rfl rfl)
theorem dX7_stays_3 : decode cX7_stays 3 = .ok (.bipush 47, 2) := dk_16 47 (dk_at dksX7_stays_0 3 rfl rfl)
theorem dX7_stays_5 : decode cX7_stays 5 = .ok (.if_icmp .ge 21, 3) := dk_162 0 21 (dk_at dksX7_stays_0 5 rfl rfl)
theorem dX7_stays_8 : decode cX7_stays 8 = .ok (.aload_n 0, 1) := dk_42 (dk_at dksX7_stays_0 8 rfl rfl)
theorem dX7_stays_9 : decode cX7_stays 9 = .ok (.getfield 17, 3) := dk_180 0 17 (dk_at dksX7_stays_0 9 rfl rfl)
theorem dX7_stays_12 : decode cX7_stays 12 = .ok (.iload_n 1, 1) := dk_27 (dk_at dksX7_stays_0 12 rfl rfl)
theorem dX7_stays_13 : decode cX7_stays 13 = .ok (.aload_n 0, 1) := dk_42 (dk_at dksX7_stays_0 13 rfl rfl)
theorem dX7_stays_14 : decode cX7_stays 14 = .ok (.getfield 21, 3) := dk_180 0 21 (dk_at dksX7_stays_0 14 rfl rfl)
theorem dX7_stays_17 : decode cX7_stays 17 = .ok (.iload_n 1, 1) := dk_27 (dk_at dksX7_stays_0 17 rfl rfl)
theorem dX7_stays_18 : decode cX7_stays 18 = .ok (.iaload, 1) := dk_46 (dk_at dksX7_stays_0 18 rfl rfl)
theorem dX7_stays_19 : decode cX7_stays 19 = .ok (.iastore, 1) := dk_79 (dk_at dksX7_stays_0 19 rfl rfl)
theorem dX7_stays_20 : decode cX7_stays 20 = .ok (.iinc 1 1, 3) := dk_132 1 1 (dk_at dksX7_stays_0 20 rfl rfl)
theorem dX7_stays_23 : decode cX7_stays 23 = .ok (.goto (-21), 3) := dk_167 255 235 (dk_at dksX7_stays_1 0 rfl rfl)
theorem dX7_stays_26 : decode cX7_stays 26 = .ok (.return_, 1) := dk_177 (dk_at dksX7_stays_1 3 rfl rfl)
abbrev cX7_die : ByteArray := prog_14_method_116_code
def yX7_die : MethodName := ⟨RX7, "die", "(I)I"⟩
def dkwX7_die_2 : List UInt8 := [182, 1, 204, 42, 29, 182, 0, 61, 172]
abbrev dktX7_die_2 : List UInt8 := dkwX7_die_2 ++ []
def dkwX7_die_1 : List UInt8 := [182, 1, 201, 42, 182, 1, 59, 42, 27, 182, 1, 44, 62, 42, 4, 27, 120, 3, 182, 1, 182, 42]
abbrev dktX7_die_1 : List UInt8 := dkwX7_die_1 ++ dktX7_die_2
def dkwX7_die_0 : List UInt8 := [42, 3, 181, 0, 51, 42, 27, 182, 1, 73, 61, 28, 158, 0, 9, 42, 28, 182, 0, 57, 172, 42]
abbrev dktX7_die_0 : List UInt8 := dkwX7_die_0 ++ dktX7_die_1
theorem dksX7_die_0 : cX7_die.data.toList.drop 0 = dktX7_die_0 := by decide +kernel
theorem dksX7_die_1 : cX7_die.data.toList.drop 22 = dktX7_die_1 := dk_seg dksX7_die_0 22 rfl rfl
theorem dksX7_die_2 : cX7_die.data.toList.drop 44 = dktX7_die_2 := dk_seg dksX7_die_1 22 rfl rfl
theorem dX7_die_0 : decode cX7_die 0 = .ok (.aload_n 0, 1) := dk_42 (dk_at dksX7_die_0 0 rfl rfl)
theorem dX7_die_1 : decode cX7_die 1 = .ok (.iconst 0, 1) := dk_3 (dk_at dksX7_die_0 1 rfl rfl)
theorem dX7_die_2 : decode cX7_die 2 = .ok (.putfield 51, 3) := dk_181 0 51 (dk_at dksX7_die_0 2 rfl rfl)
theorem dX7_die_5 : decode cX7_die 5 = .ok (.aload_n 0, 1) := dk_42 (dk_at dksX7_die_0 5 rfl rfl)
theorem dX7_die_6 : decode cX7_die 6 = .ok (.iload_n 1, 1) := dk_27 (dk_at dksX7_die_0 6 rfl rfl)
theorem dX7_die_7 : decode cX7_die 7 = .ok (.invokevirtual 329, 3) := dk_182 1 73 (dk_at dksX7_die_0 7 rfl rfl)
theorem dX7_die_10 : decode cX7_die 10 = .ok (.istore_n 2, 1) := dk_61 (dk_at dksX7_die_0 10 rfl rfl)
theorem dX7_die_11 : decode cX7_die 11 = .ok (.iload_n 2, 1) := dk_28 (dk_at dksX7_die_0 11 rfl rfl)
theorem dX7_die_12 : decode cX7_die 12 = .ok (.ifCond .le 9, 3) := dk_158 0 9 (dk_at dksX7_die_0 12 rfl rfl)
theorem dX7_die_15 : decode cX7_die 15 = .ok (.aload_n 0, 1) := dk_42 (dk_at dksX7_die_0 15 rfl rfl)
theorem dX7_die_16 : decode cX7_die 16 = .ok (.iload_n 2, 1) := dk_28 (dk_at dksX7_die_0 16 rfl rfl)
theorem dX7_die_17 : decode cX7_die 17 = .ok (.invokevirtual 57, 3) := dk_182 0 57 (dk_at dksX7_die_0 17 rfl rfl)
theorem dX7_die_20 : decode cX7_die 20 = .ok (.ireturn, 1) := dk_172 (dk_at dksX7_die_0 20 rfl rfl)
theorem dX7_die_21 : decode cX7_die 21 = .ok (.aload_n 0, 1) := dk_42 (dk_at dksX7_die_0 21 rfl rfl)
theorem dX7_die_22 : decode cX7_die 22 = .ok (.invokevirtual 457, 3) := dk_182 1 201 (dk_at dksX7_die_1 0 rfl rfl)
theorem dX7_die_25 : decode cX7_die 25 = .ok (.aload_n 0, 1) := dk_42 (dk_at dksX7_die_1 3 rfl rfl)
theorem dX7_die_26 : decode cX7_die 26 = .ok (.invokevirtual 315, 3) := dk_182 1 59 (dk_at dksX7_die_1 4 rfl rfl)
theorem dX7_die_29 : decode cX7_die 29 = .ok (.aload_n 0, 1) := dk_42 (dk_at dksX7_die_1 7 rfl rfl)
theorem dX7_die_30 : decode cX7_die 30 = .ok (.iload_n 1, 1) := dk_27 (dk_at dksX7_die_1 8 rfl rfl)
theorem dX7_die_31 : decode cX7_die 31 = .ok (.invokevirtual 300, 3) := dk_182 1 44 (dk_at dksX7_die_1 9 rfl rfl)
theorem dX7_die_34 : decode cX7_die 34 = .ok (.istore_n 3, 1) := dk_62 (dk_at dksX7_die_1 12 rfl rfl)
theorem dX7_die_35 : decode cX7_die 35 = .ok (.aload_n 0, 1) := dk_42 (dk_at dksX7_die_1 13 rfl rfl)
theorem dX7_die_36 : decode cX7_die 36 = .ok (.iconst 1, 1) := dk_4 (dk_at dksX7_die_1 14 rfl rfl)
theorem dX7_die_37 : decode cX7_die 37 = .ok (.iload_n 1, 1) := dk_27 (dk_at dksX7_die_1 15 rfl rfl)
theorem dX7_die_38 : decode cX7_die 38 = .ok (.ishl, 1) := dk_120 (dk_at dksX7_die_1 16 rfl rfl)
theorem dX7_die_39 : decode cX7_die 39 = .ok (.iconst 0, 1) := dk_3 (dk_at dksX7_die_1 17 rfl rfl)
theorem dX7_die_40 : decode cX7_die 40 = .ok (.invokevirtual 438, 3) := dk_182 1 182 (dk_at dksX7_die_1 18 rfl rfl)
theorem dX7_die_43 : decode cX7_die 43 = .ok (.aload_n 0, 1) := dk_42 (dk_at dksX7_die_1 21 rfl rfl)
theorem dX7_die_44 : decode cX7_die 44 = .ok (.invokevirtual 460, 3) := dk_182 1 204 (dk_at dksX7_die_2 0 rfl rfl)
theorem dX7_die_47 : decode cX7_die 47 = .ok (.aload_n 0, 1) := dk_42 (dk_at dksX7_die_2 3 rfl rfl)
theorem dX7_die_48 : decode cX7_die 48 = .ok (.iload_n 3, 1) := dk_29 (dk_at dksX7_die_2 4 rfl rfl)
theorem dX7_die_49 : decode cX7_die 49 = .ok (.invokevirtual 61, 3) := dk_182 0 61 (dk_at dksX7_die_2 5 rfl rfl)
theorem dX7_die_52 : decode cX7_die 52 = .ok (.ireturn, 1) := dk_172 (dk_at dksX7_die_2 8 rfl rfl)
abbrev cX7_night : ByteArray := prog_14_method_117_code
def yX7_night : MethodName := ⟨RX7, "night", "()I"⟩
def dkwX7_night_2 : List UInt8 := [182, 1, 189, 60, 42, 182, 1, 204, 42, 27, 182, 0, 61, 172]
abbrev dktX7_night_2 : List UInt8 := dkwX7_night_2 ++ []
def dkwX7_night_1 : List UInt8 := [46, 17, 3, 231, 160, 0, 9, 42, 6, 182, 0, 57, 172, 42, 182, 1, 201, 42, 182, 1, 59, 42, 4]
abbrev dktX7_night_1 : List UInt8 := dkwX7_night_1 ++ dktX7_night_2
def dkwX7_night_0 : List UInt8 := [42, 3, 181, 0, 51, 42, 180, 1, 24, 199, 0, 9, 42, 4, 182, 0, 57, 172, 42, 180, 0, 17, 16, 45]
abbrev dktX7_night_0 : List UInt8 := dkwX7_night_0 ++ dktX7_night_1
theorem dksX7_night_0 : cX7_night.data.toList.drop 0 = dktX7_night_0 := by decide +kernel
theorem dksX7_night_1 : cX7_night.data.toList.drop 24 = dktX7_night_1 := dk_seg dksX7_night_0 24 rfl rfl
theorem dksX7_night_2 : cX7_night.data.toList.drop 47 = dktX7_night_2 := dk_seg dksX7_night_1 23 rfl rfl
theorem dX7_night_0 : decode cX7_night 0 = .ok (.aload_n 0, 1) := dk_42 (dk_at dksX7_night_0 0 rfl rfl)
theorem dX7_night_1 : decode cX7_night 1 = .ok (.iconst 0, 1) := dk_3 (dk_at dksX7_night_0 1 rfl rfl)
theorem dX7_night_2 : decode cX7_night 2 = .ok (.putfield 51, 3) := dk_181 0 51 (dk_at dksX7_night_0 2 rfl rfl)
theorem dX7_night_5 : decode cX7_night 5 = .ok (.aload_n 0, 1) := dk_42 (dk_at dksX7_night_0 5 rfl rfl)
theorem dX7_night_6 : decode cX7_night 6 = .ok (.getfield 280, 3) := dk_180 1 24 (dk_at dksX7_night_0 6 rfl rfl)
theorem dX7_night_9 : decode cX7_night 9 = .ok (.ifnonnull 9, 3) := dk_199 0 9 (dk_at dksX7_night_0 9 rfl rfl)
theorem dX7_night_12 : decode cX7_night 12 = .ok (.aload_n 0, 1) := dk_42 (dk_at dksX7_night_0 12 rfl rfl)
theorem dX7_night_13 : decode cX7_night 13 = .ok (.iconst 1, 1) := dk_4 (dk_at dksX7_night_0 13 rfl rfl)
theorem dX7_night_14 : decode cX7_night 14 = .ok (.invokevirtual 57, 3) := dk_182 0 57 (dk_at dksX7_night_0 14 rfl rfl)
theorem dX7_night_17 : decode cX7_night 17 = .ok (.ireturn, 1) := dk_172 (dk_at dksX7_night_0 17 rfl rfl)
theorem dX7_night_18 : decode cX7_night 18 = .ok (.aload_n 0, 1) := dk_42 (dk_at dksX7_night_0 18 rfl rfl)
theorem dX7_night_19 : decode cX7_night 19 = .ok (.getfield 17, 3) := dk_180 0 17 (dk_at dksX7_night_0 19 rfl rfl)
theorem dX7_night_22 : decode cX7_night 22 = .ok (.bipush 45, 2) := dk_16 45 (dk_at dksX7_night_0 22 rfl rfl)
theorem dX7_night_24 : decode cX7_night 24 = .ok (.iaload, 1) := dk_46 (dk_at dksX7_night_1 0 rfl rfl)
theorem dX7_night_25 : decode cX7_night 25 = .ok (.sipush 999, 3) := dk_17 3 231 (dk_at dksX7_night_1 1 rfl rfl)
theorem dX7_night_28 : decode cX7_night 28 = .ok (.if_icmp .ne 9, 3) := dk_160 0 9 (dk_at dksX7_night_1 4 rfl rfl)
theorem dX7_night_31 : decode cX7_night 31 = .ok (.aload_n 0, 1) := dk_42 (dk_at dksX7_night_1 7 rfl rfl)
theorem dX7_night_32 : decode cX7_night 32 = .ok (.iconst 3, 1) := dk_6 (dk_at dksX7_night_1 8 rfl rfl)
theorem dX7_night_33 : decode cX7_night 33 = .ok (.invokevirtual 57, 3) := dk_182 0 57 (dk_at dksX7_night_1 9 rfl rfl)
theorem dX7_night_36 : decode cX7_night 36 = .ok (.ireturn, 1) := dk_172 (dk_at dksX7_night_1 12 rfl rfl)
theorem dX7_night_37 : decode cX7_night 37 = .ok (.aload_n 0, 1) := dk_42 (dk_at dksX7_night_1 13 rfl rfl)
theorem dX7_night_38 : decode cX7_night 38 = .ok (.invokevirtual 457, 3) := dk_182 1 201 (dk_at dksX7_night_1 14 rfl rfl)
theorem dX7_night_41 : decode cX7_night 41 = .ok (.aload_n 0, 1) := dk_42 (dk_at dksX7_night_1 17 rfl rfl)
theorem dX7_night_42 : decode cX7_night 42 = .ok (.invokevirtual 315, 3) := dk_182 1 59 (dk_at dksX7_night_1 18 rfl rfl)
theorem dX7_night_45 : decode cX7_night 45 = .ok (.aload_n 0, 1) := dk_42 (dk_at dksX7_night_1 21 rfl rfl)
theorem dX7_night_46 : decode cX7_night 46 = .ok (.iconst 1, 1) := dk_4 (dk_at dksX7_night_1 22 rfl rfl)
theorem dX7_night_47 : decode cX7_night 47 = .ok (.invokevirtual 445, 3) := dk_182 1 189 (dk_at dksX7_night_2 0 rfl rfl)
theorem dX7_night_50 : decode cX7_night 50 = .ok (.istore_n 1, 1) := dk_60 (dk_at dksX7_night_2 3 rfl rfl)
theorem dX7_night_51 : decode cX7_night 51 = .ok (.aload_n 0, 1) := dk_42 (dk_at dksX7_night_2 4 rfl rfl)
theorem dX7_night_52 : decode cX7_night 52 = .ok (.invokevirtual 460, 3) := dk_182 1 204 (dk_at dksX7_night_2 5 rfl rfl)
theorem dX7_night_55 : decode cX7_night 55 = .ok (.aload_n 0, 1) := dk_42 (dk_at dksX7_night_2 8 rfl rfl)
theorem dX7_night_56 : decode cX7_night 56 = .ok (.iload_n 1, 1) := dk_27 (dk_at dksX7_night_2 9 rfl rfl)
theorem dX7_night_57 : decode cX7_night 57 = .ok (.invokevirtual 61, 3) := dk_182 0 61 (dk_at dksX7_night_2 10 rfl rfl)
theorem dX7_night_60 : decode cX7_night 60 = .ok (.ireturn, 1) := dk_172 (dk_at dksX7_night_2 13 rfl rfl)
abbrev cX7_seed : ByteArray := prog_14_method_118_code
def yX7_seed : MethodName := ⟨RX7, "seed", "(I)Z"⟩
def dkwX7_seed_2 : List UInt8 := [172]
abbrev dktX7_seed_2 : List UInt8 := dkwX7_seed_2 ++ []
def dkwX7_seed_1 : List UInt8 := [184, 0, 130, 154, 0, 9, 42, 5, 182, 1, 207, 172, 42, 180, 0, 17, 16, 46, 27, 79, 42, 182, 1, 210]
abbrev dktX7_seed_1 : List UInt8 := dkwX7_seed_1 ++ dktX7_seed_2
def dkwX7_seed_0 : List UInt8 := [42, 3, 181, 0, 51, 42, 180, 1, 24, 199, 0, 9, 42, 4, 182, 1, 207, 172, 27, 3, 19, 1, 193]
abbrev dktX7_seed_0 : List UInt8 := dkwX7_seed_0 ++ dktX7_seed_1
theorem dksX7_seed_0 : cX7_seed.data.toList.drop 0 = dktX7_seed_0 := by decide +kernel
theorem dksX7_seed_1 : cX7_seed.data.toList.drop 23 = dktX7_seed_1 := dk_seg dksX7_seed_0 23 rfl rfl
theorem dksX7_seed_2 : cX7_seed.data.toList.drop 47 = dktX7_seed_2 := dk_seg dksX7_seed_1 24 rfl rfl
theorem dX7_seed_0 : decode cX7_seed 0 = .ok (.aload_n 0, 1) := dk_42 (dk_at dksX7_seed_0 0 rfl rfl)
theorem dX7_seed_1 : decode cX7_seed 1 = .ok (.iconst 0, 1) := dk_3 (dk_at dksX7_seed_0 1 rfl rfl)
theorem dX7_seed_2 : decode cX7_seed 2 = .ok (.putfield 51, 3) := dk_181 0 51 (dk_at dksX7_seed_0 2 rfl rfl)
theorem dX7_seed_5 : decode cX7_seed 5 = .ok (.aload_n 0, 1) := dk_42 (dk_at dksX7_seed_0 5 rfl rfl)
theorem dX7_seed_6 : decode cX7_seed 6 = .ok (.getfield 280, 3) := dk_180 1 24 (dk_at dksX7_seed_0 6 rfl rfl)
theorem dX7_seed_9 : decode cX7_seed 9 = .ok (.ifnonnull 9, 3) := dk_199 0 9 (dk_at dksX7_seed_0 9 rfl rfl)
theorem dX7_seed_12 : decode cX7_seed 12 = .ok (.aload_n 0, 1) := dk_42 (dk_at dksX7_seed_0 12 rfl rfl)
theorem dX7_seed_13 : decode cX7_seed 13 = .ok (.iconst 1, 1) := dk_4 (dk_at dksX7_seed_0 13 rfl rfl)
theorem dX7_seed_14 : decode cX7_seed 14 = .ok (.invokevirtual 463, 3) := dk_182 1 207 (dk_at dksX7_seed_0 14 rfl rfl)
theorem dX7_seed_17 : decode cX7_seed 17 = .ok (.ireturn, 1) := dk_172 (dk_at dksX7_seed_0 17 rfl rfl)
theorem dX7_seed_18 : decode cX7_seed 18 = .ok (.iload_n 1, 1) := dk_27 (dk_at dksX7_seed_0 18 rfl rfl)
theorem dX7_seed_19 : decode cX7_seed 19 = .ok (.iconst 0, 1) := dk_3 (dk_at dksX7_seed_0 19 rfl rfl)
theorem dX7_seed_20 : decode cX7_seed 20 = .ok (.ldc_w 449, 3) := dk_19 1 193 (dk_at dksX7_seed_0 20 rfl rfl)
theorem dX7_seed_23 : decode cX7_seed 23 = .ok (.invokestatic 130, 3) := dk_184 0 130 (dk_at dksX7_seed_1 0 rfl rfl)
theorem dX7_seed_26 : decode cX7_seed 26 = .ok (.ifCond .ne 9, 3) := dk_154 0 9 (dk_at dksX7_seed_1 3 rfl rfl)
theorem dX7_seed_29 : decode cX7_seed 29 = .ok (.aload_n 0, 1) := dk_42 (dk_at dksX7_seed_1 6 rfl rfl)
theorem dX7_seed_30 : decode cX7_seed 30 = .ok (.iconst 2, 1) := dk_5 (dk_at dksX7_seed_1 7 rfl rfl)
theorem dX7_seed_31 : decode cX7_seed 31 = .ok (.invokevirtual 463, 3) := dk_182 1 207 (dk_at dksX7_seed_1 8 rfl rfl)
theorem dX7_seed_34 : decode cX7_seed 34 = .ok (.ireturn, 1) := dk_172 (dk_at dksX7_seed_1 11 rfl rfl)
theorem dX7_seed_35 : decode cX7_seed 35 = .ok (.aload_n 0, 1) := dk_42 (dk_at dksX7_seed_1 12 rfl rfl)
theorem dX7_seed_36 : decode cX7_seed 36 = .ok (.getfield 17, 3) := dk_180 0 17 (dk_at dksX7_seed_1 13 rfl rfl)
theorem dX7_seed_39 : decode cX7_seed 39 = .ok (.bipush 46, 2) := dk_16 46 (dk_at dksX7_seed_1 16 rfl rfl)
theorem dX7_seed_41 : decode cX7_seed 41 = .ok (.iload_n 1, 1) := dk_27 (dk_at dksX7_seed_1 18 rfl rfl)
theorem dX7_seed_42 : decode cX7_seed 42 = .ok (.iastore, 1) := dk_79 (dk_at dksX7_seed_1 19 rfl rfl)
theorem dX7_seed_43 : decode cX7_seed 43 = .ok (.aload_n 0, 1) := dk_42 (dk_at dksX7_seed_1 20 rfl rfl)
theorem dX7_seed_44 : decode cX7_seed 44 = .ok (.invokevirtual 466, 3) := dk_182 1 210 (dk_at dksX7_seed_1 21 rfl rfl)
theorem dX7_seed_47 : decode cX7_seed 47 = .ok (.ireturn, 1) := dk_172 (dk_at dksX7_seed_2 0 rfl rfl)
abbrev cX7_denied : ByteArray := prog_14_method_5_code
def yX7_denied : MethodName := ⟨RX7, "denied", "(I)Z"⟩
def dkwX7_denied_0 : List UInt8 := [42, 27, 182, 0, 57, 87, 3, 172]
abbrev dktX7_denied_0 : List UInt8 := dkwX7_denied_0 ++ []
theorem dksX7_denied_0 : cX7_denied.data.toList.drop 0 = dktX7_denied_0 := by decide +kernel
theorem dX7_denied_0 : decode cX7_denied 0 = .ok (.aload_n 0, 1) := dk_42 (dk_at dksX7_denied_0 0 rfl rfl)
theorem dX7_denied_1 : decode cX7_denied 1 = .ok (.iload_n 1, 1) := dk_27 (dk_at dksX7_denied_0 1 rfl rfl)
theorem dX7_denied_2 : decode cX7_denied 2 = .ok (.invokevirtual 57, 3) := dk_182 0 57 (dk_at dksX7_denied_0 2 rfl rfl)
theorem dX7_denied_5 : decode cX7_denied 5 = .ok (.pop, 1) := dk_87 (dk_at dksX7_denied_0 5 rfl rfl)
theorem dX7_denied_6 : decode cX7_denied 6 = .ok (.iconst 0, 1) := dk_3 (dk_at dksX7_denied_0 6 rfl rfl)
theorem dX7_denied_7 : decode cX7_denied 7 = .ok (.ireturn, 1) := dk_172 (dk_at dksX7_denied_0 7 rfl rfl)
abbrev cX7_granted : ByteArray := prog_14_method_7_code
def yX7_granted : MethodName := ⟨RX7, "granted", "()Z"⟩
def dkwX7_granted_0 : List UInt8 := [42, 3, 182, 0, 61, 87, 4, 172]
abbrev dktX7_granted_0 : List UInt8 := dkwX7_granted_0 ++ []
theorem dksX7_granted_0 : cX7_granted.data.toList.drop 0 = dktX7_granted_0 := by decide +kernel
theorem dX7_granted_0 : decode cX7_granted 0 = .ok (.aload_n 0, 1) := dk_42 (dk_at dksX7_granted_0 0 rfl rfl)
theorem dX7_granted_1 : decode cX7_granted 1 = .ok (.iconst 0, 1) := dk_3 (dk_at dksX7_granted_0 1 rfl rfl)
theorem dX7_granted_2 : decode cX7_granted 2 = .ok (.invokevirtual 61, 3) := dk_182 0 61 (dk_at dksX7_granted_0 2 rfl rfl)
theorem dX7_granted_5 : decode cX7_granted 5 = .ok (.pop, 1) := dk_87 (dk_at dksX7_granted_0 5 rfl rfl)
theorem dX7_granted_6 : decode cX7_granted 6 = .ok (.iconst 1, 1) := dk_4 (dk_at dksX7_granted_0 6 rfl rfl)
theorem dX7_granted_7 : decode cX7_granted 7 = .ok (.ireturn, 1) := dk_172 (dk_at dksX7_granted_0 7 rfl rfl)
abbrev cX7_undo : ByteArray := prog_14_method_119_code
def yX7_undo : MethodName := ⟨RX7, "undo", "()Z"⟩
def dkwX7_undo_3 : List UInt8 := [167, 255, 227, 42, 182, 1, 210, 172]
abbrev dktX7_undo_3 : List UInt8 := dkwX7_undo_3 ++ []
def dkwX7_undo_2 : List UInt8 := [180, 0, 17, 27, 42, 180, 0, 24, 16, 47, 42, 180, 1, 29, 104, 27, 96, 46, 79, 132, 1, 1]
abbrev dktX7_undo_2 : List UInt8 := dkwX7_undo_2 ++ dktX7_undo_3
def dkwX7_undo_1 : List UInt8 := [182, 1, 207, 172, 42, 89, 180, 1, 29, 4, 100, 181, 1, 29, 3, 60, 27, 16, 47, 162, 0, 29, 42]
abbrev dktX7_undo_1 : List UInt8 := dkwX7_undo_1 ++ dktX7_undo_2
def dkwX7_undo_0 : List UInt8 := [42, 3, 181, 0, 51, 42, 180, 1, 24, 198, 0, 10, 42, 180, 1, 29, 154, 0, 10, 42, 16, 6]
abbrev dktX7_undo_0 : List UInt8 := dkwX7_undo_0 ++ dktX7_undo_1
theorem dksX7_undo_0 : cX7_undo.data.toList.drop 0 = dktX7_undo_0 := by decide +kernel
theorem dksX7_undo_1 : cX7_undo.data.toList.drop 22 = dktX7_undo_1 := dk_seg dksX7_undo_0 22 rfl rfl
theorem dksX7_undo_2 : cX7_undo.data.toList.drop 45 = dktX7_undo_2 := dk_seg dksX7_undo_1 23 rfl rfl
theorem dksX7_undo_3 : cX7_undo.data.toList.drop 67 = dktX7_undo_3 := dk_seg dksX7_undo_2 22 rfl rfl
theorem dX7_undo_0 : decode cX7_undo 0 = .ok (.aload_n 0, 1) := dk_42 (dk_at dksX7_undo_0 0 rfl rfl)
theorem dX7_undo_1 : decode cX7_undo 1 = .ok (.iconst 0, 1) := dk_3 (dk_at dksX7_undo_0 1 rfl rfl)
theorem dX7_undo_2 : decode cX7_undo 2 = .ok (.putfield 51, 3) := dk_181 0 51 (dk_at dksX7_undo_0 2 rfl rfl)
theorem dX7_undo_5 : decode cX7_undo 5 = .ok (.aload_n 0, 1) := dk_42 (dk_at dksX7_undo_0 5 rfl rfl)
theorem dX7_undo_6 : decode cX7_undo 6 = .ok (.getfield 280, 3) := dk_180 1 24 (dk_at dksX7_undo_0 6 rfl rfl)
theorem dX7_undo_9 : decode cX7_undo 9 = .ok (.ifnull 10, 3) := dk_198 0 10 (dk_at dksX7_undo_0 9 rfl rfl)
theorem dX7_undo_12 : decode cX7_undo 12 = .ok (.aload_n 0, 1) := dk_42 (dk_at dksX7_undo_0 12 rfl rfl)
theorem dX7_undo_13 : decode cX7_undo 13 = .ok (.getfield 285, 3) := dk_180 1 29 (dk_at dksX7_undo_0 13 rfl rfl)
theorem dX7_undo_16 : decode cX7_undo 16 = .ok (.ifCond .ne 10, 3) := dk_154 0 10 (dk_at dksX7_undo_0 16 rfl rfl)
theorem dX7_undo_19 : decode cX7_undo 19 = .ok (.aload_n 0, 1) := dk_42 (dk_at dksX7_undo_0 19 rfl rfl)
theorem dX7_undo_20 : decode cX7_undo 20 = .ok (.bipush 6, 2) := dk_16 6 (dk_at dksX7_undo_0 20 rfl rfl)
theorem dX7_undo_22 : decode cX7_undo 22 = .ok (.invokevirtual 463, 3) := dk_182 1 207 (dk_at dksX7_undo_1 0 rfl rfl)
theorem dX7_undo_25 : decode cX7_undo 25 = .ok (.ireturn, 1) := dk_172 (dk_at dksX7_undo_1 3 rfl rfl)
theorem dX7_undo_26 : decode cX7_undo 26 = .ok (.aload_n 0, 1) := dk_42 (dk_at dksX7_undo_1 4 rfl rfl)
theorem dX7_undo_27 : decode cX7_undo 27 = .ok (.dup, 1) := dk_89 (dk_at dksX7_undo_1 5 rfl rfl)
theorem dX7_undo_28 : decode cX7_undo 28 = .ok (.getfield 285, 3) := dk_180 1 29 (dk_at dksX7_undo_1 6 rfl rfl)
theorem dX7_undo_31 : decode cX7_undo 31 = .ok (.iconst 1, 1) := dk_4 (dk_at dksX7_undo_1 9 rfl rfl)
theorem dX7_undo_32 : decode cX7_undo 32 = .ok (.isub, 1) := dk_100 (dk_at dksX7_undo_1 10 rfl rfl)
theorem dX7_undo_33 : decode cX7_undo 33 = .ok (.putfield 285, 3) := dk_181 1 29 (dk_at dksX7_undo_1 11 rfl rfl)
theorem dX7_undo_36 : decode cX7_undo 36 = .ok (.iconst 0, 1) := dk_3 (dk_at dksX7_undo_1 14 rfl rfl)
theorem dX7_undo_37 : decode cX7_undo 37 = .ok (.istore_n 1, 1) := dk_60 (dk_at dksX7_undo_1 15 rfl rfl)
theorem dX7_undo_38 : decode cX7_undo 38 = .ok (.iload_n 1, 1) := dk_27 (dk_at dksX7_undo_1 16 rfl rfl)
theorem dX7_undo_39 : decode cX7_undo 39 = .ok (.bipush 47, 2) := dk_16 47 (dk_at dksX7_undo_1 17 rfl rfl)
theorem dX7_undo_41 : decode cX7_undo 41 = .ok (.if_icmp .ge 29, 3) := dk_162 0 29 (dk_at dksX7_undo_1 19 rfl rfl)
theorem dX7_undo_44 : decode cX7_undo 44 = .ok (.aload_n 0, 1) := dk_42 (dk_at dksX7_undo_1 22 rfl rfl)
theorem dX7_undo_45 : decode cX7_undo 45 = .ok (.getfield 17, 3) := dk_180 0 17 (dk_at dksX7_undo_2 0 rfl rfl)
theorem dX7_undo_48 : decode cX7_undo 48 = .ok (.iload_n 1, 1) := dk_27 (dk_at dksX7_undo_2 3 rfl rfl)
theorem dX7_undo_49 : decode cX7_undo 49 = .ok (.aload_n 0, 1) := dk_42 (dk_at dksX7_undo_2 4 rfl rfl)
theorem dX7_undo_50 : decode cX7_undo 50 = .ok (.getfield 24, 3) := dk_180 0 24 (dk_at dksX7_undo_2 5 rfl rfl)
theorem dX7_undo_53 : decode cX7_undo 53 = .ok (.bipush 47, 2) := dk_16 47 (dk_at dksX7_undo_2 8 rfl rfl)
theorem dX7_undo_55 : decode cX7_undo 55 = .ok (.aload_n 0, 1) := dk_42 (dk_at dksX7_undo_2 10 rfl rfl)
theorem dX7_undo_56 : decode cX7_undo 56 = .ok (.getfield 285, 3) := dk_180 1 29 (dk_at dksX7_undo_2 11 rfl rfl)
theorem dX7_undo_59 : decode cX7_undo 59 = .ok (.imul, 1) := dk_104 (dk_at dksX7_undo_2 14 rfl rfl)
theorem dX7_undo_60 : decode cX7_undo 60 = .ok (.iload_n 1, 1) := dk_27 (dk_at dksX7_undo_2 15 rfl rfl)
theorem dX7_undo_61 : decode cX7_undo 61 = .ok (.iadd, 1) := dk_96 (dk_at dksX7_undo_2 16 rfl rfl)
theorem dX7_undo_62 : decode cX7_undo 62 = .ok (.iaload, 1) := dk_46 (dk_at dksX7_undo_2 17 rfl rfl)
theorem dX7_undo_63 : decode cX7_undo 63 = .ok (.iastore, 1) := dk_79 (dk_at dksX7_undo_2 18 rfl rfl)
theorem dX7_undo_64 : decode cX7_undo 64 = .ok (.iinc 1 1, 3) := dk_132 1 1 (dk_at dksX7_undo_2 19 rfl rfl)
theorem dX7_undo_67 : decode cX7_undo 67 = .ok (.goto (-29), 3) := dk_167 255 227 (dk_at dksX7_undo_3 0 rfl rfl)
theorem dX7_undo_70 : decode cX7_undo 70 = .ok (.aload_n 0, 1) := dk_42 (dk_at dksX7_undo_3 3 rfl rfl)
theorem dX7_undo_71 : decode cX7_undo 71 = .ok (.invokevirtual 466, 3) := dk_182 1 210 (dk_at dksX7_undo_3 4 rfl rfl)
theorem dX7_undo_74 : decode cX7_undo 74 = .ok (.ireturn, 1) := dk_172 (dk_at dksX7_undo_3 7 rfl rfl)
abbrev cX7_image : ByteArray := prog_14_method_120_code
def yX7_image : MethodName := ⟨RX7, "image", "()I"⟩
def dkwX7_image_3 : List UInt8 := [4, 96, 181, 1, 32, 42, 42, 180, 1, 32, 4, 100, 182, 0, 61, 172]
abbrev dktX7_image_3 : List UInt8 := dkwX7_image_3 ++ []
def dkwX7_image_2 : List UInt8 := [180, 1, 32, 104, 27, 96, 42, 180, 0, 17, 27, 46, 79, 132, 1, 1, 167, 255, 227, 42, 89, 180, 1, 32]
abbrev dktX7_image_2 : List UInt8 := dkwX7_image_2 ++ dktX7_image_3
def dkwX7_image_1 : List UInt8 := [160, 0, 9, 42, 6, 182, 0, 57, 172, 3, 60, 27, 16, 47, 162, 0, 29, 42, 180, 0, 27, 16, 47, 42]
abbrev dktX7_image_1 : List UInt8 := dkwX7_image_1 ++ dktX7_image_2
def dkwX7_image_0 : List UInt8 := [42, 3, 181, 0, 51, 42, 180, 1, 24, 199, 0, 9, 42, 4, 182, 0, 57, 172, 42, 180, 1, 32, 6]
abbrev dktX7_image_0 : List UInt8 := dkwX7_image_0 ++ dktX7_image_1
theorem dksX7_image_0 : cX7_image.data.toList.drop 0 = dktX7_image_0 := by decide +kernel
theorem dksX7_image_1 : cX7_image.data.toList.drop 23 = dktX7_image_1 := dk_seg dksX7_image_0 23 rfl rfl
theorem dksX7_image_2 : cX7_image.data.toList.drop 47 = dktX7_image_2 := dk_seg dksX7_image_1 24 rfl rfl
theorem dksX7_image_3 : cX7_image.data.toList.drop 71 = dktX7_image_3 := dk_seg dksX7_image_2 24 rfl rfl
theorem dX7_image_0 : decode cX7_image 0 = .ok (.aload_n 0, 1) := dk_42 (dk_at dksX7_image_0 0 rfl rfl)
theorem dX7_image_1 : decode cX7_image 1 = .ok (.iconst 0, 1) := dk_3 (dk_at dksX7_image_0 1 rfl rfl)
theorem dX7_image_2 : decode cX7_image 2 = .ok (.putfield 51, 3) := dk_181 0 51 (dk_at dksX7_image_0 2 rfl rfl)
theorem dX7_image_5 : decode cX7_image 5 = .ok (.aload_n 0, 1) := dk_42 (dk_at dksX7_image_0 5 rfl rfl)
theorem dX7_image_6 : decode cX7_image 6 = .ok (.getfield 280, 3) := dk_180 1 24 (dk_at dksX7_image_0 6 rfl rfl)
theorem dX7_image_9 : decode cX7_image 9 = .ok (.ifnonnull 9, 3) := dk_199 0 9 (dk_at dksX7_image_0 9 rfl rfl)
theorem dX7_image_12 : decode cX7_image 12 = .ok (.aload_n 0, 1) := dk_42 (dk_at dksX7_image_0 12 rfl rfl)
theorem dX7_image_13 : decode cX7_image 13 = .ok (.iconst 1, 1) := dk_4 (dk_at dksX7_image_0 13 rfl rfl)
theorem dX7_image_14 : decode cX7_image 14 = .ok (.invokevirtual 57, 3) := dk_182 0 57 (dk_at dksX7_image_0 14 rfl rfl)
theorem dX7_image_17 : decode cX7_image 17 = .ok (.ireturn, 1) := dk_172 (dk_at dksX7_image_0 17 rfl rfl)
theorem dX7_image_18 : decode cX7_image 18 = .ok (.aload_n 0, 1) := dk_42 (dk_at dksX7_image_0 18 rfl rfl)
theorem dX7_image_19 : decode cX7_image 19 = .ok (.getfield 288, 3) := dk_180 1 32 (dk_at dksX7_image_0 19 rfl rfl)
theorem dX7_image_22 : decode cX7_image 22 = .ok (.iconst 3, 1) := dk_6 (dk_at dksX7_image_0 22 rfl rfl)
theorem dX7_image_23 : decode cX7_image 23 = .ok (.if_icmp .ne 9, 3) := dk_160 0 9 (dk_at dksX7_image_1 0 rfl rfl)
theorem dX7_image_26 : decode cX7_image 26 = .ok (.aload_n 0, 1) := dk_42 (dk_at dksX7_image_1 3 rfl rfl)
theorem dX7_image_27 : decode cX7_image 27 = .ok (.iconst 3, 1) := dk_6 (dk_at dksX7_image_1 4 rfl rfl)
theorem dX7_image_28 : decode cX7_image 28 = .ok (.invokevirtual 57, 3) := dk_182 0 57 (dk_at dksX7_image_1 5 rfl rfl)
theorem dX7_image_31 : decode cX7_image 31 = .ok (.ireturn, 1) := dk_172 (dk_at dksX7_image_1 8 rfl rfl)
theorem dX7_image_32 : decode cX7_image 32 = .ok (.iconst 0, 1) := dk_3 (dk_at dksX7_image_1 9 rfl rfl)
theorem dX7_image_33 : decode cX7_image 33 = .ok (.istore_n 1, 1) := dk_60 (dk_at dksX7_image_1 10 rfl rfl)
theorem dX7_image_34 : decode cX7_image 34 = .ok (.iload_n 1, 1) := dk_27 (dk_at dksX7_image_1 11 rfl rfl)
theorem dX7_image_35 : decode cX7_image 35 = .ok (.bipush 47, 2) := dk_16 47 (dk_at dksX7_image_1 12 rfl rfl)
theorem dX7_image_37 : decode cX7_image 37 = .ok (.if_icmp .ge 29, 3) := dk_162 0 29 (dk_at dksX7_image_1 14 rfl rfl)
theorem dX7_image_40 : decode cX7_image 40 = .ok (.aload_n 0, 1) := dk_42 (dk_at dksX7_image_1 17 rfl rfl)
theorem dX7_image_41 : decode cX7_image 41 = .ok (.getfield 27, 3) := dk_180 0 27 (dk_at dksX7_image_1 18 rfl rfl)
theorem dX7_image_44 : decode cX7_image 44 = .ok (.bipush 47, 2) := dk_16 47 (dk_at dksX7_image_1 21 rfl rfl)
theorem dX7_image_46 : decode cX7_image 46 = .ok (.aload_n 0, 1) := dk_42 (dk_at dksX7_image_1 23 rfl rfl)
theorem dX7_image_47 : decode cX7_image 47 = .ok (.getfield 288, 3) := dk_180 1 32 (dk_at dksX7_image_2 0 rfl rfl)
theorem dX7_image_50 : decode cX7_image 50 = .ok (.imul, 1) := dk_104 (dk_at dksX7_image_2 3 rfl rfl)
theorem dX7_image_51 : decode cX7_image 51 = .ok (.iload_n 1, 1) := dk_27 (dk_at dksX7_image_2 4 rfl rfl)
theorem dX7_image_52 : decode cX7_image 52 = .ok (.iadd, 1) := dk_96 (dk_at dksX7_image_2 5 rfl rfl)
theorem dX7_image_53 : decode cX7_image 53 = .ok (.aload_n 0, 1) := dk_42 (dk_at dksX7_image_2 6 rfl rfl)
theorem dX7_image_54 : decode cX7_image 54 = .ok (.getfield 17, 3) := dk_180 0 17 (dk_at dksX7_image_2 7 rfl rfl)
theorem dX7_image_57 : decode cX7_image 57 = .ok (.iload_n 1, 1) := dk_27 (dk_at dksX7_image_2 10 rfl rfl)
theorem dX7_image_58 : decode cX7_image 58 = .ok (.iaload, 1) := dk_46 (dk_at dksX7_image_2 11 rfl rfl)
theorem dX7_image_59 : decode cX7_image 59 = .ok (.iastore, 1) := dk_79 (dk_at dksX7_image_2 12 rfl rfl)
theorem dX7_image_60 : decode cX7_image 60 = .ok (.iinc 1 1, 3) := dk_132 1 1 (dk_at dksX7_image_2 13 rfl rfl)
theorem dX7_image_63 : decode cX7_image 63 = .ok (.goto (-29), 3) := dk_167 255 227 (dk_at dksX7_image_2 16 rfl rfl)
theorem dX7_image_66 : decode cX7_image 66 = .ok (.aload_n 0, 1) := dk_42 (dk_at dksX7_image_2 19 rfl rfl)
theorem dX7_image_67 : decode cX7_image 67 = .ok (.dup, 1) := dk_89 (dk_at dksX7_image_2 20 rfl rfl)
theorem dX7_image_68 : decode cX7_image 68 = .ok (.getfield 288, 3) := dk_180 1 32 (dk_at dksX7_image_2 21 rfl rfl)
theorem dX7_image_71 : decode cX7_image 71 = .ok (.iconst 1, 1) := dk_4 (dk_at dksX7_image_3 0 rfl rfl)
theorem dX7_image_72 : decode cX7_image 72 = .ok (.iadd, 1) := dk_96 (dk_at dksX7_image_3 1 rfl rfl)
theorem dX7_image_73 : decode cX7_image 73 = .ok (.putfield 288, 3) := dk_181 1 32 (dk_at dksX7_image_3 2 rfl rfl)
theorem dX7_image_76 : decode cX7_image 76 = .ok (.aload_n 0, 1) := dk_42 (dk_at dksX7_image_3 5 rfl rfl)
theorem dX7_image_77 : decode cX7_image 77 = .ok (.aload_n 0, 1) := dk_42 (dk_at dksX7_image_3 6 rfl rfl)
theorem dX7_image_78 : decode cX7_image 78 = .ok (.getfield 288, 3) := dk_180 1 32 (dk_at dksX7_image_3 7 rfl rfl)
theorem dX7_image_81 : decode cX7_image 81 = .ok (.iconst 1, 1) := dk_4 (dk_at dksX7_image_3 10 rfl rfl)
theorem dX7_image_82 : decode cX7_image 82 = .ok (.isub, 1) := dk_100 (dk_at dksX7_image_3 11 rfl rfl)
theorem dX7_image_83 : decode cX7_image 83 = .ok (.invokevirtual 61, 3) := dk_182 0 61 (dk_at dksX7_image_3 12 rfl rfl)
theorem dX7_image_86 : decode cX7_image 86 = .ok (.ireturn, 1) := dk_172 (dk_at dksX7_image_3 15 rfl rfl)
abbrev cX7_back : ByteArray := prog_14_method_121_code
def yX7_back : MethodName := ⟨RX7, "back", "(I)Z"⟩
def dkwX7_back_2 : List UInt8 := [16, 47, 27, 104, 28, 96, 46, 79, 132, 2, 1, 167, 255, 230, 42, 3, 181, 1, 29, 42, 182, 1, 210, 172]
abbrev dktX7_back_2 : List UInt8 := dkwX7_back_2 ++ []
def dkwX7_back_1 : List UInt8 := [42, 4, 182, 1, 207, 172, 3, 61, 28, 16, 47, 162, 0, 26, 42, 180, 0, 17, 28, 42, 180, 0, 27]
abbrev dktX7_back_1 : List UInt8 := dkwX7_back_1 ++ dktX7_back_2
def dkwX7_back_0 : List UInt8 := [42, 3, 181, 0, 51, 42, 180, 1, 24, 198, 0, 15, 27, 155, 0, 11, 27, 42, 180, 1, 32, 161, 0, 9]
abbrev dktX7_back_0 : List UInt8 := dkwX7_back_0 ++ dktX7_back_1
theorem dksX7_back_0 : cX7_back.data.toList.drop 0 = dktX7_back_0 := by decide +kernel
theorem dksX7_back_1 : cX7_back.data.toList.drop 24 = dktX7_back_1 := dk_seg dksX7_back_0 24 rfl rfl
theorem dksX7_back_2 : cX7_back.data.toList.drop 47 = dktX7_back_2 := dk_seg dksX7_back_1 23 rfl rfl
theorem dX7_back_0 : decode cX7_back 0 = .ok (.aload_n 0, 1) := dk_42 (dk_at dksX7_back_0 0 rfl rfl)
theorem dX7_back_1 : decode cX7_back 1 = .ok (.iconst 0, 1) := dk_3 (dk_at dksX7_back_0 1 rfl rfl)
theorem dX7_back_2 : decode cX7_back 2 = .ok (.putfield 51, 3) := dk_181 0 51 (dk_at dksX7_back_0 2 rfl rfl)
theorem dX7_back_5 : decode cX7_back 5 = .ok (.aload_n 0, 1) := dk_42 (dk_at dksX7_back_0 5 rfl rfl)
theorem dX7_back_6 : decode cX7_back 6 = .ok (.getfield 280, 3) := dk_180 1 24 (dk_at dksX7_back_0 6 rfl rfl)
theorem dX7_back_9 : decode cX7_back 9 = .ok (.ifnull 15, 3) := dk_198 0 15 (dk_at dksX7_back_0 9 rfl rfl)
theorem dX7_back_12 : decode cX7_back 12 = .ok (.iload_n 1, 1) := dk_27 (dk_at dksX7_back_0 12 rfl rfl)
theorem dX7_back_13 : decode cX7_back 13 = .ok (.ifCond .lt 11, 3) := dk_155 0 11 (dk_at dksX7_back_0 13 rfl rfl)
theorem dX7_back_16 : decode cX7_back 16 = .ok (.iload_n 1, 1) := dk_27 (dk_at dksX7_back_0 16 rfl rfl)
theorem dX7_back_17 : decode cX7_back 17 = .ok (.aload_n 0, 1) := dk_42 (dk_at dksX7_back_0 17 rfl rfl)
theorem dX7_back_18 : decode cX7_back 18 = .ok (.getfield 288, 3) := dk_180 1 32 (dk_at dksX7_back_0 18 rfl rfl)
theorem dX7_back_21 : decode cX7_back 21 = .ok (.if_icmp .lt 9, 3) := dk_161 0 9 (dk_at dksX7_back_0 21 rfl rfl)
theorem dX7_back_24 : decode cX7_back 24 = .ok (.aload_n 0, 1) := dk_42 (dk_at dksX7_back_1 0 rfl rfl)
theorem dX7_back_25 : decode cX7_back 25 = .ok (.iconst 1, 1) := dk_4 (dk_at dksX7_back_1 1 rfl rfl)
theorem dX7_back_26 : decode cX7_back 26 = .ok (.invokevirtual 463, 3) := dk_182 1 207 (dk_at dksX7_back_1 2 rfl rfl)
theorem dX7_back_29 : decode cX7_back 29 = .ok (.ireturn, 1) := dk_172 (dk_at dksX7_back_1 5 rfl rfl)
theorem dX7_back_30 : decode cX7_back 30 = .ok (.iconst 0, 1) := dk_3 (dk_at dksX7_back_1 6 rfl rfl)
theorem dX7_back_31 : decode cX7_back 31 = .ok (.istore_n 2, 1) := dk_61 (dk_at dksX7_back_1 7 rfl rfl)
theorem dX7_back_32 : decode cX7_back 32 = .ok (.iload_n 2, 1) := dk_28 (dk_at dksX7_back_1 8 rfl rfl)
theorem dX7_back_33 : decode cX7_back 33 = .ok (.bipush 47, 2) := dk_16 47 (dk_at dksX7_back_1 9 rfl rfl)
theorem dX7_back_35 : decode cX7_back 35 = .ok (.if_icmp .ge 26, 3) := dk_162 0 26 (dk_at dksX7_back_1 11 rfl rfl)
theorem dX7_back_38 : decode cX7_back 38 = .ok (.aload_n 0, 1) := dk_42 (dk_at dksX7_back_1 14 rfl rfl)
theorem dX7_back_39 : decode cX7_back 39 = .ok (.getfield 17, 3) := dk_180 0 17 (dk_at dksX7_back_1 15 rfl rfl)
theorem dX7_back_42 : decode cX7_back 42 = .ok (.iload_n 2, 1) := dk_28 (dk_at dksX7_back_1 18 rfl rfl)
theorem dX7_back_43 : decode cX7_back 43 = .ok (.aload_n 0, 1) := dk_42 (dk_at dksX7_back_1 19 rfl rfl)
theorem dX7_back_44 : decode cX7_back 44 = .ok (.getfield 27, 3) := dk_180 0 27 (dk_at dksX7_back_1 20 rfl rfl)
theorem dX7_back_47 : decode cX7_back 47 = .ok (.bipush 47, 2) := dk_16 47 (dk_at dksX7_back_2 0 rfl rfl)
theorem dX7_back_49 : decode cX7_back 49 = .ok (.iload_n 1, 1) := dk_27 (dk_at dksX7_back_2 2 rfl rfl)
theorem dX7_back_50 : decode cX7_back 50 = .ok (.imul, 1) := dk_104 (dk_at dksX7_back_2 3 rfl rfl)
theorem dX7_back_51 : decode cX7_back 51 = .ok (.iload_n 2, 1) := dk_28 (dk_at dksX7_back_2 4 rfl rfl)
theorem dX7_back_52 : decode cX7_back 52 = .ok (.iadd, 1) := dk_96 (dk_at dksX7_back_2 5 rfl rfl)
theorem dX7_back_53 : decode cX7_back 53 = .ok (.iaload, 1) := dk_46 (dk_at dksX7_back_2 6 rfl rfl)
theorem dX7_back_54 : decode cX7_back 54 = .ok (.iastore, 1) := dk_79 (dk_at dksX7_back_2 7 rfl rfl)
theorem dX7_back_55 : decode cX7_back 55 = .ok (.iinc 2 1, 3) := dk_132 2 1 (dk_at dksX7_back_2 8 rfl rfl)
theorem dX7_back_58 : decode cX7_back 58 = .ok (.goto (-26), 3) := dk_167 255 230 (dk_at dksX7_back_2 11 rfl rfl)
theorem dX7_back_61 : decode cX7_back 61 = .ok (.aload_n 0, 1) := dk_42 (dk_at dksX7_back_2 14 rfl rfl)
theorem dX7_back_62 : decode cX7_back 62 = .ok (.iconst 0, 1) := dk_3 (dk_at dksX7_back_2 15 rfl rfl)
theorem dX7_back_63 : decode cX7_back 63 = .ok (.putfield 285, 3) := dk_181 1 29 (dk_at dksX7_back_2 16 rfl rfl)
theorem dX7_back_66 : decode cX7_back 66 = .ok (.aload_n 0, 1) := dk_42 (dk_at dksX7_back_2 19 rfl rfl)
theorem dX7_back_67 : decode cX7_back 67 = .ok (.invokevirtual 466, 3) := dk_182 1 210 (dk_at dksX7_back_2 20 rfl rfl)
theorem dX7_back_70 : decode cX7_back 70 = .ok (.ireturn, 1) := dk_172 (dk_at dksX7_back_2 23 rfl rfl)
abbrev cX7_led : ByteArray := prog_14_method_122_code
def yX7_led : MethodName := ⟨RX7, "led", "(I)I"⟩
def dkwX7_led_3 : List UInt8 := [167, 255, 204, 42, 4, 181, 0, 51, 3, 172]
abbrev dktX7_led_3 : List UInt8 := dkwX7_led_3 ++ []
def dkwX7_led_2 : List UInt8 := [182, 1, 44, 16, 254, 159, 0, 6, 167, 0, 13, 28, 27, 160, 0, 5, 29, 172, 132, 2, 1, 132, 3, 1]
abbrev dktX7_led_2 : List UInt8 := dkwX7_led_2 ++ dktX7_led_3
def dkwX7_led_1 : List UInt8 := [198, 0, 51, 29, 42, 180, 1, 24, 180, 0, 170, 162, 0, 40, 42, 29, 182, 1, 38, 153, 0, 26, 42, 29]
abbrev dktX7_led_1 : List UInt8 := dkwX7_led_1 ++ dktX7_led_2
def dkwX7_led_0 : List UInt8 := [42, 3, 181, 0, 51, 3, 61, 42, 180, 1, 24, 198, 0, 7, 42, 182, 1, 59, 3, 62, 42, 180, 1, 24]
abbrev dktX7_led_0 : List UInt8 := dkwX7_led_0 ++ dktX7_led_1
theorem dksX7_led_0 : cX7_led.data.toList.drop 0 = dktX7_led_0 := by decide +kernel
theorem dksX7_led_1 : cX7_led.data.toList.drop 24 = dktX7_led_1 := dk_seg dksX7_led_0 24 rfl rfl
theorem dksX7_led_2 : cX7_led.data.toList.drop 48 = dktX7_led_2 := dk_seg dksX7_led_1 24 rfl rfl
theorem dksX7_led_3 : cX7_led.data.toList.drop 72 = dktX7_led_3 := dk_seg dksX7_led_2 24 rfl rfl
theorem dX7_led_0 : decode cX7_led 0 = .ok (.aload_n 0, 1) := dk_42 (dk_at dksX7_led_0 0 rfl rfl)
theorem dX7_led_1 : decode cX7_led 1 = .ok (.iconst 0, 1) := dk_3 (dk_at dksX7_led_0 1 rfl rfl)
theorem dX7_led_2 : decode cX7_led 2 = .ok (.putfield 51, 3) := dk_181 0 51 (dk_at dksX7_led_0 2 rfl rfl)
theorem dX7_led_5 : decode cX7_led 5 = .ok (.iconst 0, 1) := dk_3 (dk_at dksX7_led_0 5 rfl rfl)
theorem dX7_led_6 : decode cX7_led 6 = .ok (.istore_n 2, 1) := dk_61 (dk_at dksX7_led_0 6 rfl rfl)
theorem dX7_led_7 : decode cX7_led 7 = .ok (.aload_n 0, 1) := dk_42 (dk_at dksX7_led_0 7 rfl rfl)
theorem dX7_led_8 : decode cX7_led 8 = .ok (.getfield 280, 3) := dk_180 1 24 (dk_at dksX7_led_0 8 rfl rfl)
theorem dX7_led_11 : decode cX7_led 11 = .ok (.ifnull 7, 3) := dk_198 0 7 (dk_at dksX7_led_0 11 rfl rfl)
theorem dX7_led_14 : decode cX7_led 14 = .ok (.aload_n 0, 1) := dk_42 (dk_at dksX7_led_0 14 rfl rfl)
theorem dX7_led_15 : decode cX7_led 15 = .ok (.invokevirtual 315, 3) := dk_182 1 59 (dk_at dksX7_led_0 15 rfl rfl)
theorem dX7_led_18 : decode cX7_led 18 = .ok (.iconst 0, 1) := dk_3 (dk_at dksX7_led_0 18 rfl rfl)
theorem dX7_led_19 : decode cX7_led 19 = .ok (.istore_n 3, 1) := dk_62 (dk_at dksX7_led_0 19 rfl rfl)
theorem dX7_led_20 : decode cX7_led 20 = .ok (.aload_n 0, 1) := dk_42 (dk_at dksX7_led_0 20 rfl rfl)
theorem dX7_led_21 : decode cX7_led 21 = .ok (.getfield 280, 3) := dk_180 1 24 (dk_at dksX7_led_0 21 rfl rfl)
theorem dX7_led_24 : decode cX7_led 24 = .ok (.ifnull 51, 3) := dk_198 0 51 (dk_at dksX7_led_1 0 rfl rfl)
theorem dX7_led_27 : decode cX7_led 27 = .ok (.iload_n 3, 1) := dk_29 (dk_at dksX7_led_1 3 rfl rfl)
theorem dX7_led_28 : decode cX7_led 28 = .ok (.aload_n 0, 1) := dk_42 (dk_at dksX7_led_1 4 rfl rfl)
theorem dX7_led_29 : decode cX7_led 29 = .ok (.getfield 280, 3) := dk_180 1 24 (dk_at dksX7_led_1 5 rfl rfl)
theorem dX7_led_32 : decode cX7_led 32 = .ok (.getfield 170, 3) := dk_180 0 170 (dk_at dksX7_led_1 8 rfl rfl)
theorem dX7_led_35 : decode cX7_led 35 = .ok (.if_icmp .ge 40, 3) := dk_162 0 40 (dk_at dksX7_led_1 11 rfl rfl)
theorem dX7_led_38 : decode cX7_led 38 = .ok (.aload_n 0, 1) := dk_42 (dk_at dksX7_led_1 14 rfl rfl)
theorem dX7_led_39 : decode cX7_led 39 = .ok (.iload_n 3, 1) := dk_29 (dk_at dksX7_led_1 15 rfl rfl)
theorem dX7_led_40 : decode cX7_led 40 = .ok (.invokevirtual 294, 3) := dk_182 1 38 (dk_at dksX7_led_1 16 rfl rfl)
theorem dX7_led_43 : decode cX7_led 43 = .ok (.ifCond .eq 26, 3) := dk_153 0 26 (dk_at dksX7_led_1 19 rfl rfl)
theorem dX7_led_46 : decode cX7_led 46 = .ok (.aload_n 0, 1) := dk_42 (dk_at dksX7_led_1 22 rfl rfl)
theorem dX7_led_47 : decode cX7_led 47 = .ok (.iload_n 3, 1) := dk_29 (dk_at dksX7_led_1 23 rfl rfl)
theorem dX7_led_48 : decode cX7_led 48 = .ok (.invokevirtual 300, 3) := dk_182 1 44 (dk_at dksX7_led_2 0 rfl rfl)
theorem dX7_led_51 : decode cX7_led 51 = .ok (.bipush (-2), 2) := dk_16 254 (dk_at dksX7_led_2 3 rfl rfl)
theorem dX7_led_53 : decode cX7_led 53 = .ok (.if_icmp .eq 6, 3) := dk_159 0 6 (dk_at dksX7_led_2 5 rfl rfl)
theorem dX7_led_56 : decode cX7_led 56 = .ok (.goto 13, 3) := dk_167 0 13 (dk_at dksX7_led_2 8 rfl rfl)
theorem dX7_led_59 : decode cX7_led 59 = .ok (.iload_n 2, 1) := dk_28 (dk_at dksX7_led_2 11 rfl rfl)
theorem dX7_led_60 : decode cX7_led 60 = .ok (.iload_n 1, 1) := dk_27 (dk_at dksX7_led_2 12 rfl rfl)
theorem dX7_led_61 : decode cX7_led 61 = .ok (.if_icmp .ne 5, 3) := dk_160 0 5 (dk_at dksX7_led_2 13 rfl rfl)
theorem dX7_led_64 : decode cX7_led 64 = .ok (.iload_n 3, 1) := dk_29 (dk_at dksX7_led_2 16 rfl rfl)
theorem dX7_led_65 : decode cX7_led 65 = .ok (.ireturn, 1) := dk_172 (dk_at dksX7_led_2 17 rfl rfl)
theorem dX7_led_66 : decode cX7_led 66 = .ok (.iinc 2 1, 3) := dk_132 2 1 (dk_at dksX7_led_2 18 rfl rfl)
theorem dX7_led_69 : decode cX7_led 69 = .ok (.iinc 3 1, 3) := dk_132 3 1 (dk_at dksX7_led_2 21 rfl rfl)
theorem dX7_led_72 : decode cX7_led 72 = .ok (.goto (-52), 3) := dk_167 255 204 (dk_at dksX7_led_3 0 rfl rfl)
theorem dX7_led_75 : decode cX7_led 75 = .ok (.aload_n 0, 1) := dk_42 (dk_at dksX7_led_3 3 rfl rfl)
theorem dX7_led_76 : decode cX7_led 76 = .ok (.iconst 1, 1) := dk_4 (dk_at dksX7_led_3 4 rfl rfl)
theorem dX7_led_77 : decode cX7_led 77 = .ok (.putfield 51, 3) := dk_181 0 51 (dk_at dksX7_led_3 5 rfl rfl)
theorem dX7_led_80 : decode cX7_led 80 = .ok (.iconst 0, 1) := dk_3 (dk_at dksX7_led_3 8 rfl rfl)
theorem dX7_led_81 : decode cX7_led 81 = .ok (.ireturn, 1) := dk_172 (dk_at dksX7_led_3 9 rfl rfl)
abbrev cX7_size : ByteArray := prog_14_method_123_code
def yX7_size : MethodName := ⟨RX7, "size", "(I)I"⟩
def dkwX7_size_6 : List UInt8 := [16, 45, 46, 172, 42, 180, 0, 17, 16, 46, 46, 172, 42, 180, 1, 29, 172, 42, 180, 1, 32, 172]
abbrev dktX7_size_6 : List UInt8 := dkwX7_size_6 ++ []
def dkwX7_size_5 : List UInt8 := [42, 180, 1, 24, 180, 1, 14, 172, 42, 180, 0, 17, 16, 42, 46, 184, 1, 85, 172, 42, 180, 0, 17]
abbrev dktX7_size_5 : List UInt8 := dkwX7_size_5 ++ dktX7_size_6
def dkwX7_size_4 : List UInt8 := [42, 180, 1, 24, 180, 0, 227, 172, 42, 180, 1, 24, 180, 0, 247, 172, 42, 180, 1, 24, 180, 0, 255, 172]
abbrev dktX7_size_4 : List UInt8 := dkwX7_size_4 ++ dktX7_size_5
def dkwX7_size_3 : List UInt8 := [42, 180, 0, 17, 16, 44, 46, 172, 42, 180, 1, 24, 180, 0, 198, 172, 42, 180, 1, 24, 180, 0, 170, 172]
abbrev dktX7_size_3 : List UInt8 := dkwX7_size_3 ++ dktX7_size_4
def dkwX7_size_2 : List UInt8 := [170, 0, 0, 0, 0, 146, 0, 0, 0, 0, 0, 0, 0, 10, 0, 0, 0, 58, 0, 0, 0, 66, 0, 0, 0, 74, 0, 0, 0, 82, 0, 0, 0, 90, 0, 0, 0, 98, 0, 0, 0, 106, 0, 0, 0, 114, 0, 0, 0, 125, 0, 0, 0, 133, 0, 0, 0, 141]
abbrev dktX7_size_2 : List UInt8 := dkwX7_size_2 ++ dktX7_size_3
def dkwX7_size_1 : List UInt8 := [154, 0, 5, 2, 172, 42, 180, 1, 24, 199, 0, 5, 3, 172, 27]
abbrev dktX7_size_1 : List UInt8 := dkwX7_size_1 ++ dktX7_size_2
def dkwX7_size_0 : List UInt8 := [42, 3, 181, 0, 51, 27, 16, 12, 160, 0, 8, 42, 180, 1, 17, 172, 27, 3, 16, 11, 184, 0, 130]
abbrev dktX7_size_0 : List UInt8 := dkwX7_size_0 ++ dktX7_size_1
theorem dksX7_size_0 : cX7_size.data.toList.drop 0 = dktX7_size_0 := by decide +kernel
theorem dksX7_size_1 : cX7_size.data.toList.drop 23 = dktX7_size_1 := dk_seg dksX7_size_0 23 rfl rfl
theorem dksX7_size_2 : cX7_size.data.toList.drop 38 = dktX7_size_2 := dk_seg dksX7_size_1 15 rfl rfl
theorem dksX7_size_3 : cX7_size.data.toList.drop 96 = dktX7_size_3 := dk_seg dksX7_size_2 58 rfl rfl
theorem dksX7_size_4 : cX7_size.data.toList.drop 120 = dktX7_size_4 := dk_seg dksX7_size_3 24 rfl rfl
theorem dksX7_size_5 : cX7_size.data.toList.drop 144 = dktX7_size_5 := dk_seg dksX7_size_4 24 rfl rfl
theorem dksX7_size_6 : cX7_size.data.toList.drop 167 = dktX7_size_6 := dk_seg dksX7_size_5 23 rfl rfl
theorem dX7_size_0 : decode cX7_size 0 = .ok (.aload_n 0, 1) := dk_42 (dk_at dksX7_size_0 0 rfl rfl)
theorem dX7_size_1 : decode cX7_size 1 = .ok (.iconst 0, 1) := dk_3 (dk_at dksX7_size_0 1 rfl rfl)
theorem dX7_size_2 : decode cX7_size 2 = .ok (.putfield 51, 3) := dk_181 0 51 (dk_at dksX7_size_0 2 rfl rfl)
theorem dX7_size_5 : decode cX7_size 5 = .ok (.iload_n 1, 1) := dk_27 (dk_at dksX7_size_0 5 rfl rfl)
theorem dX7_size_6 : decode cX7_size 6 = .ok (.bipush 12, 2) := dk_16 12 (dk_at dksX7_size_0 6 rfl rfl)
theorem dX7_size_8 : decode cX7_size 8 = .ok (.if_icmp .ne 8, 3) := dk_160 0 8 (dk_at dksX7_size_0 8 rfl rfl)
theorem dX7_size_11 : decode cX7_size 11 = .ok (.aload_n 0, 1) := dk_42 (dk_at dksX7_size_0 11 rfl rfl)
theorem dX7_size_12 : decode cX7_size 12 = .ok (.getfield 273, 3) := dk_180 1 17 (dk_at dksX7_size_0 12 rfl rfl)
theorem dX7_size_15 : decode cX7_size 15 = .ok (.ireturn, 1) := dk_172 (dk_at dksX7_size_0 15 rfl rfl)
theorem dX7_size_16 : decode cX7_size 16 = .ok (.iload_n 1, 1) := dk_27 (dk_at dksX7_size_0 16 rfl rfl)
theorem dX7_size_17 : decode cX7_size 17 = .ok (.iconst 0, 1) := dk_3 (dk_at dksX7_size_0 17 rfl rfl)
theorem dX7_size_18 : decode cX7_size 18 = .ok (.bipush 11, 2) := dk_16 11 (dk_at dksX7_size_0 18 rfl rfl)
theorem dX7_size_20 : decode cX7_size 20 = .ok (.invokestatic 130, 3) := dk_184 0 130 (dk_at dksX7_size_0 20 rfl rfl)
theorem dX7_size_23 : decode cX7_size 23 = .ok (.ifCond .ne 5, 3) := dk_154 0 5 (dk_at dksX7_size_1 0 rfl rfl)
theorem dX7_size_26 : decode cX7_size 26 = .ok (.iconst (-1), 1) := dk_2 (dk_at dksX7_size_1 3 rfl rfl)
theorem dX7_size_27 : decode cX7_size 27 = .ok (.ireturn, 1) := dk_172 (dk_at dksX7_size_1 4 rfl rfl)
theorem dX7_size_28 : decode cX7_size 28 = .ok (.aload_n 0, 1) := dk_42 (dk_at dksX7_size_1 5 rfl rfl)
theorem dX7_size_29 : decode cX7_size 29 = .ok (.getfield 280, 3) := dk_180 1 24 (dk_at dksX7_size_1 6 rfl rfl)
theorem dX7_size_32 : decode cX7_size 32 = .ok (.ifnonnull 5, 3) := dk_199 0 5 (dk_at dksX7_size_1 9 rfl rfl)
theorem dX7_size_35 : decode cX7_size 35 = .ok (.iconst 0, 1) := dk_3 (dk_at dksX7_size_1 12 rfl rfl)
theorem dX7_size_36 : decode cX7_size 36 = .ok (.ireturn, 1) := dk_172 (dk_at dksX7_size_1 13 rfl rfl)
theorem dX7_size_37 : decode cX7_size 37 = .ok (.iload_n 1, 1) := dk_27 (dk_at dksX7_size_1 14 rfl rfl)
theorem dX7_size_38 : decode cX7_size 38 = .ok (.tableswitch 146 0 10 #[58, 66, 74, 82, 90, 98, 106, 114, 125, 133, 141], 58) := by decide +kernel
theorem dX7_size_96 : decode cX7_size 96 = .ok (.aload_n 0, 1) := dk_42 (dk_at dksX7_size_3 0 rfl rfl)
theorem dX7_size_97 : decode cX7_size 97 = .ok (.getfield 17, 3) := dk_180 0 17 (dk_at dksX7_size_3 1 rfl rfl)
theorem dX7_size_100 : decode cX7_size 100 = .ok (.bipush 44, 2) := dk_16 44 (dk_at dksX7_size_3 4 rfl rfl)
theorem dX7_size_102 : decode cX7_size 102 = .ok (.iaload, 1) := dk_46 (dk_at dksX7_size_3 6 rfl rfl)
theorem dX7_size_103 : decode cX7_size 103 = .ok (.ireturn, 1) := dk_172 (dk_at dksX7_size_3 7 rfl rfl)
theorem dX7_size_104 : decode cX7_size 104 = .ok (.aload_n 0, 1) := dk_42 (dk_at dksX7_size_3 8 rfl rfl)
theorem dX7_size_105 : decode cX7_size 105 = .ok (.getfield 280, 3) := dk_180 1 24 (dk_at dksX7_size_3 9 rfl rfl)
theorem dX7_size_108 : decode cX7_size 108 = .ok (.getfield 198, 3) := dk_180 0 198 (dk_at dksX7_size_3 12 rfl rfl)
theorem dX7_size_111 : decode cX7_size 111 = .ok (.ireturn, 1) := dk_172 (dk_at dksX7_size_3 15 rfl rfl)
theorem dX7_size_112 : decode cX7_size 112 = .ok (.aload_n 0, 1) := dk_42 (dk_at dksX7_size_3 16 rfl rfl)
theorem dX7_size_113 : decode cX7_size 113 = .ok (.getfield 280, 3) := dk_180 1 24 (dk_at dksX7_size_3 17 rfl rfl)
theorem dX7_size_116 : decode cX7_size 116 = .ok (.getfield 170, 3) := dk_180 0 170 (dk_at dksX7_size_3 20 rfl rfl)
theorem dX7_size_119 : decode cX7_size 119 = .ok (.ireturn, 1) := dk_172 (dk_at dksX7_size_3 23 rfl rfl)
theorem dX7_size_120 : decode cX7_size 120 = .ok (.aload_n 0, 1) := dk_42 (dk_at dksX7_size_4 0 rfl rfl)
theorem dX7_size_121 : decode cX7_size 121 = .ok (.getfield 280, 3) := dk_180 1 24 (dk_at dksX7_size_4 1 rfl rfl)
theorem dX7_size_124 : decode cX7_size 124 = .ok (.getfield 227, 3) := dk_180 0 227 (dk_at dksX7_size_4 4 rfl rfl)
theorem dX7_size_127 : decode cX7_size 127 = .ok (.ireturn, 1) := dk_172 (dk_at dksX7_size_4 7 rfl rfl)
theorem dX7_size_128 : decode cX7_size 128 = .ok (.aload_n 0, 1) := dk_42 (dk_at dksX7_size_4 8 rfl rfl)
theorem dX7_size_129 : decode cX7_size 129 = .ok (.getfield 280, 3) := dk_180 1 24 (dk_at dksX7_size_4 9 rfl rfl)
theorem dX7_size_132 : decode cX7_size 132 = .ok (.getfield 247, 3) := dk_180 0 247 (dk_at dksX7_size_4 12 rfl rfl)
theorem dX7_size_135 : decode cX7_size 135 = .ok (.ireturn, 1) := dk_172 (dk_at dksX7_size_4 15 rfl rfl)
theorem dX7_size_136 : decode cX7_size 136 = .ok (.aload_n 0, 1) := dk_42 (dk_at dksX7_size_4 16 rfl rfl)
theorem dX7_size_137 : decode cX7_size 137 = .ok (.getfield 280, 3) := dk_180 1 24 (dk_at dksX7_size_4 17 rfl rfl)
theorem dX7_size_140 : decode cX7_size 140 = .ok (.getfield 255, 3) := dk_180 0 255 (dk_at dksX7_size_4 20 rfl rfl)
theorem dX7_size_143 : decode cX7_size 143 = .ok (.ireturn, 1) := dk_172 (dk_at dksX7_size_4 23 rfl rfl)
theorem dX7_size_144 : decode cX7_size 144 = .ok (.aload_n 0, 1) := dk_42 (dk_at dksX7_size_5 0 rfl rfl)
theorem dX7_size_145 : decode cX7_size 145 = .ok (.getfield 280, 3) := dk_180 1 24 (dk_at dksX7_size_5 1 rfl rfl)
theorem dX7_size_148 : decode cX7_size 148 = .ok (.getfield 270, 3) := dk_180 1 14 (dk_at dksX7_size_5 4 rfl rfl)
theorem dX7_size_151 : decode cX7_size 151 = .ok (.ireturn, 1) := dk_172 (dk_at dksX7_size_5 7 rfl rfl)
theorem dX7_size_152 : decode cX7_size 152 = .ok (.aload_n 0, 1) := dk_42 (dk_at dksX7_size_5 8 rfl rfl)
theorem dX7_size_153 : decode cX7_size 153 = .ok (.getfield 17, 3) := dk_180 0 17 (dk_at dksX7_size_5 9 rfl rfl)
theorem dX7_size_156 : decode cX7_size 156 = .ok (.bipush 42, 2) := dk_16 42 (dk_at dksX7_size_5 12 rfl rfl)
theorem dX7_size_158 : decode cX7_size 158 = .ok (.iaload, 1) := dk_46 (dk_at dksX7_size_5 14 rfl rfl)
theorem dX7_size_159 : decode cX7_size 159 = .ok (.invokestatic 341, 3) := dk_184 1 85 (dk_at dksX7_size_5 15 rfl rfl)
theorem dX7_size_162 : decode cX7_size 162 = .ok (.ireturn, 1) := dk_172 (dk_at dksX7_size_5 18 rfl rfl)
theorem dX7_size_163 : decode cX7_size 163 = .ok (.aload_n 0, 1) := dk_42 (dk_at dksX7_size_5 19 rfl rfl)
theorem dX7_size_164 : decode cX7_size 164 = .ok (.getfield 17, 3) := dk_180 0 17 (dk_at dksX7_size_5 20 rfl rfl)
theorem dX7_size_167 : decode cX7_size 167 = .ok (.bipush 45, 2) := dk_16 45 (dk_at dksX7_size_6 0 rfl rfl)
theorem dX7_size_169 : decode cX7_size 169 = .ok (.iaload, 1) := dk_46 (dk_at dksX7_size_6 2 rfl rfl)
theorem dX7_size_170 : decode cX7_size 170 = .ok (.ireturn, 1) := dk_172 (dk_at dksX7_size_6 3 rfl rfl)
theorem dX7_size_171 : decode cX7_size 171 = .ok (.aload_n 0, 1) := dk_42 (dk_at dksX7_size_6 4 rfl rfl)
theorem dX7_size_172 : decode cX7_size 172 = .ok (.getfield 17, 3) := dk_180 0 17 (dk_at dksX7_size_6 5 rfl rfl)
theorem dX7_size_175 : decode cX7_size 175 = .ok (.bipush 46, 2) := dk_16 46 (dk_at dksX7_size_6 8 rfl rfl)
theorem dX7_size_177 : decode cX7_size 177 = .ok (.iaload, 1) := dk_46 (dk_at dksX7_size_6 10 rfl rfl)
theorem dX7_size_178 : decode cX7_size 178 = .ok (.ireturn, 1) := dk_172 (dk_at dksX7_size_6 11 rfl rfl)
theorem dX7_size_179 : decode cX7_size 179 = .ok (.aload_n 0, 1) := dk_42 (dk_at dksX7_size_6 12 rfl rfl)
theorem dX7_size_180 : decode cX7_size 180 = .ok (.getfield 285, 3) := dk_180 1 29 (dk_at dksX7_size_6 13 rfl rfl)
theorem dX7_size_183 : decode cX7_size 183 = .ok (.ireturn, 1) := dk_172 (dk_at dksX7_size_6 16 rfl rfl)
theorem dX7_size_184 : decode cX7_size 184 = .ok (.aload_n 0, 1) := dk_42 (dk_at dksX7_size_6 17 rfl rfl)
theorem dX7_size_185 : decode cX7_size 185 = .ok (.getfield 288, 3) := dk_180 1 32 (dk_at dksX7_size_6 18 rfl rfl)
theorem dX7_size_188 : decode cX7_size 188 = .ok (.ireturn, 1) := dk_172 (dk_at dksX7_size_6 21 rfl rfl)
abbrev cX7_trouble : ByteArray := prog_14_method_124_code
def yX7_trouble : MethodName := ⟨RX7, "trouble", "()I"⟩
def dkwX7_trouble_0 : List UInt8 := [42, 3, 181, 0, 51, 42, 180, 0, 54, 172]
abbrev dktX7_trouble_0 : List UInt8 := dkwX7_trouble_0 ++ []
theorem dksX7_trouble_0 : cX7_trouble.data.toList.drop 0 = dktX7_trouble_0 := by decide +kernel
theorem dX7_trouble_0 : decode cX7_trouble 0 = .ok (.aload_n 0, 1) := dk_42 (dk_at dksX7_trouble_0 0 rfl rfl)
theorem dX7_trouble_1 : decode cX7_trouble 1 = .ok (.iconst 0, 1) := dk_3 (dk_at dksX7_trouble_0 1 rfl rfl)
theorem dX7_trouble_2 : decode cX7_trouble 2 = .ok (.putfield 51, 3) := dk_181 0 51 (dk_at dksX7_trouble_0 2 rfl rfl)
theorem dX7_trouble_5 : decode cX7_trouble 5 = .ok (.aload_n 0, 1) := dk_42 (dk_at dksX7_trouble_0 5 rfl rfl)
theorem dX7_trouble_6 : decode cX7_trouble 6 = .ok (.getfield 54, 3) := dk_180 0 54 (dk_at dksX7_trouble_0 6 rfl rfl)
theorem dX7_trouble_9 : decode cX7_trouble 9 = .ok (.ireturn, 1) := dk_172 (dk_at dksX7_trouble_0 9 rfl rfl)
theorem q122 : (Jvm.Cond.initialized "LastAskedModel") ∈ lw_all := lw_g (lw_at lw_m1 10 rfl) rfl
theorem q1367 : (Jvm.Cond.instantiable "LastAskedModel" (37 : Nat)) ∈ lw_all := lw_g (lw_at lw_m6 55 rfl) rfl
theorem q1369 : (Jvm.Cond.instanceMethod ({ cls := "LastAskedModel", name := "<init>", desc := "()V" } : Jvm.MethodName)) ∈ lw_all := lw_g (lw_at lw_m6 57 rfl) rfl
theorem q1370 : (Jvm.Cond.code ({ cls := "LastAskedModel", name := "<init>", desc := "()V" } : Jvm.MethodName) prog_14_method_1_code (1 : Nat) (Option.none : Option Jvm.ClassFile.FieldType)) ∈ lw_all := lw_g (lw_at lw_m6 58 rfl) rfl
theorem q1371 : (Jvm.Cond.methodLink "LastAskedModel" (3 : Nat) ({ cls := "java/lang/Object", name := "<init>", desc := "()V" } : Jvm.MethodName)) ∈ lw_all := lw_g (lw_at lw_m6 59 rfl) rfl
theorem q1372 : (Jvm.Cond.fieldLink "LastAskedModel" (51 : Nat) "LastAskedModel" "thrown" "I") ∈ lw_all := lw_g (lw_at lw_m6 60 rfl) rfl
theorem q1373 : (Jvm.Cond.fieldLink "LastAskedModel" (54 : Nat) "LastAskedModel" "trouble" "I") ∈ lw_all := lw_g (lw_at lw_m6 61 rfl) rfl
theorem q1374 : (Jvm.Cond.fieldLink "LastAskedModel" (9 : Nat) "LastAskedModel" "where" "I") ∈ lw_all := lw_g (lw_at lw_m6 62 rfl) rfl
theorem q1375 : (Jvm.Cond.fieldLink "LastAskedModel" (280 : Nat) "LastAskedModel" "city" "LLastAskedModel$City;") ∈ lw_all := lw_g (lw_at lw_m6 63 rfl) rfl
theorem q1376 : (Jvm.Cond.fieldLink "LastAskedModel" (148 : Nat) "LastAskedModel" "read" "LLastAskedModel$City;") ∈ lw_all := lw_g (lw_at lw_m6 64 rfl) rfl
theorem q1377 : (Jvm.Cond.fieldLink "LastAskedModel" (13 : Nat) "LastAskedModel" "tape" "[B") ∈ lw_all := lw_g (lw_at lw_m6 65 rfl) rfl
theorem q1378 : (Jvm.Cond.fieldLink "LastAskedModel" (273 : Nat) "LastAskedModel" "taped" "I") ∈ lw_all := lw_g (lw_at lw_m6 66 rfl) rfl
theorem q1379 : (Jvm.Cond.fieldLink "LastAskedModel" (68 : Nat) "LastAskedModel" "size" "I") ∈ lw_all := lw_g (lw_at lw_m6 67 rfl) rfl
theorem q1380 : (Jvm.Cond.fieldLink "LastAskedModel" (86 : Nat) "LastAskedModel" "spot" "I") ∈ lw_all := lw_g (lw_at lw_m6 68 rfl) rfl
theorem q1381 : (Jvm.Cond.fieldLink "LastAskedModel" (83 : Nat) "LastAskedModel" "sort" "I") ∈ lw_all := lw_g (lw_at lw_m6 69 rfl) rfl
theorem q1382 : (Jvm.Cond.fieldLink "LastAskedModel" (92 : Nat) "LastAskedModel" "place" "I") ∈ lw_all := lw_g (lw_at lw_m6 70 rfl) rfl
theorem q1383 : (Jvm.Cond.fieldLink "LastAskedModel" (106 : Nat) "LastAskedModel" "number" "I") ∈ lw_all := lw_g (lw_at lw_m6 71 rfl) rfl
theorem q1384 : (Jvm.Cond.fieldLink "LastAskedModel" (109 : Nat) "LastAskedModel" "fault" "I") ∈ lw_all := lw_g (lw_at lw_m6 72 rfl) rfl
theorem q1385 : (Jvm.Cond.fieldLink "LastAskedModel" (112 : Nat) "LastAskedModel" "wrongAt" "I") ∈ lw_all := lw_g (lw_at lw_m6 73 rfl) rfl
theorem q1386 : (Jvm.Cond.fieldLink "LastAskedModel" (99 : Nat) "LastAskedModel" "word" "J") ∈ lw_all := lw_g (lw_at lw_m6 74 rfl) rfl
theorem q1387 : (Jvm.Cond.fieldLink "LastAskedModel" (239 : Nat) "LastAskedModel" "askedOf" "I") ∈ lw_all := lw_g (lw_at lw_m6 75 rfl) rfl
theorem q1388 : (Jvm.Cond.fieldLink "LastAskedModel" (17 : Nat) "LastAskedModel" "v" "[I") ∈ lw_all := lw_g (lw_at lw_m6 76 rfl) rfl
theorem q1389 : (Jvm.Cond.fieldLink "LastAskedModel" (21 : Nat) "LastAskedModel" "x" "[I") ∈ lw_all := lw_g (lw_at lw_m6 77 rfl) rfl
theorem q1390 : (Jvm.Cond.fieldLink "LastAskedModel" (24 : Nat) "LastAskedModel" "past" "[I") ∈ lw_all := lw_g (lw_at lw_m6 78 rfl) rfl
theorem q1391 : (Jvm.Cond.fieldLink "LastAskedModel" (27 : Nat) "LastAskedModel" "kept" "[I") ∈ lw_all := lw_g (lw_at lw_m6 79 rfl) rfl
theorem q1392 : (Jvm.Cond.fieldLink "LastAskedModel" (285 : Nat) "LastAskedModel" "acts" "I") ∈ lw_all := lw_g (lw_at lw_m6 80 rfl) rfl
theorem q1393 : (Jvm.Cond.fieldLink "LastAskedModel" (288 : Nat) "LastAskedModel" "images" "I") ∈ lw_all := lw_g (lw_at lw_m6 81 rfl) rfl
theorem q1394 : (Jvm.Cond.fieldLink "LastAskedModel" (30 : Nat) "LastAskedModel" "heir" "[I") ∈ lw_all := lw_g (lw_at lw_m6 82 rfl) rfl
theorem q1395 : (Jvm.Cond.fieldLink "LastAskedModel" (33 : Nat) "LastAskedModel" "then" "[I") ∈ lw_all := lw_g (lw_at lw_m6 83 rfl) rfl
theorem q1396 : (Jvm.Cond.fieldLink "LastAskedModel" (303 : Nat) "LastAskedModel" "catGets" "I") ∈ lw_all := lw_g (lw_at lw_m6 84 rfl) rfl
theorem q1397 : (Jvm.Cond.fieldLink "LastAskedModel" (344 : Nat) "LastAskedModel" "whole" "J") ∈ lw_all := lw_g (lw_at lw_m6 85 rfl) rfl
theorem q1398 : (Jvm.Cond.fieldLink "LastAskedModel" (365 : Nat) "LastAskedModel" "bestSum" "J") ∈ lw_all := lw_g (lw_at lw_m6 86 rfl) rfl
theorem q1399 : (Jvm.Cond.fieldLink "LastAskedModel" (36 : Nat) "LastAskedModel" "come" "[I") ∈ lw_all := lw_g (lw_at lw_m6 87 rfl) rfl
theorem q1400 : (Jvm.Cond.fieldLink "LastAskedModel" (39 : Nat) "LastAskedModel" "comeThen" "[I") ∈ lw_all := lw_g (lw_at lw_m6 88 rfl) rfl
theorem q1401 : (Jvm.Cond.fieldLink "LastAskedModel" (385 : Nat) "LastAskedModel" "tourHoursNow" "I") ∈ lw_all := lw_g (lw_at lw_m6 89 rfl) rfl
theorem q1402 : (Jvm.Cond.fieldLink "LastAskedModel" (42 : Nat) "LastAskedModel" "hour" "[I") ∈ lw_all := lw_g (lw_at lw_m6 90 rfl) rfl
theorem q1403 : (Jvm.Cond.fieldLink "LastAskedModel" (45 : Nat) "LastAskedModel" "partIn" "[I") ∈ lw_all := lw_g (lw_at lw_m6 91 rfl) rfl
theorem q1404 : (Jvm.Cond.fieldLink "LastAskedModel" (48 : Nat) "LastAskedModel" "heirIn" "[I") ∈ lw_all := lw_g (lw_at lw_m6 92 rfl) rfl
theorem q1405 : (Jvm.Cond.fieldLink "LastAskedModel" (394 : Nat) "LastAskedModel" "fitsNow" "I") ∈ lw_all := lw_g (lw_at lw_m6 93 rfl) rfl
theorem q1406 : (Jvm.Cond.fieldLink "LastAskedModel" (403 : Nat) "LastAskedModel" "foundHour" "I") ∈ lw_all := lw_g (lw_at lw_m6 94 rfl) rfl
theorem q1407 : (Jvm.Cond.fieldLink "LastAskedModel" (409 : Nat) "LastAskedModel" "lookLeft" "I") ∈ lw_all := lw_g (lw_at lw_m6 95 rfl) rfl
theorem q1408 : (Jvm.Cond.fieldLink "LastAskedModel" (442 : Nat) "LastAskedModel" "firstCatNow" "I") ∈ lw_all := lw_g (lw_at lw_m6 96 rfl) rfl
theorem q1409 : (Jvm.Cond.lays "LastAskedModel" "LastAskedModel" "thrown" "I") ∈ lw_all := lw_g (lw_at lw_m6 97 rfl) rfl
theorem q1410 : (Jvm.Cond.soleField "LastAskedModel" "thrown") ∈ lw_all := lw_g (lw_at lw_m6 98 rfl) rfl
theorem q1411 : (Jvm.Cond.lays "LastAskedModel" "LastAskedModel" "trouble" "I") ∈ lw_all := lw_g (lw_at lw_m6 99 rfl) rfl
theorem q1412 : (Jvm.Cond.soleField "LastAskedModel" "trouble") ∈ lw_all := lw_g (lw_at lw_m6 100 rfl) rfl
theorem q1413 : (Jvm.Cond.lays "LastAskedModel" "LastAskedModel" "where" "I") ∈ lw_all := lw_g (lw_at lw_m6 101 rfl) rfl
theorem q1414 : (Jvm.Cond.soleField "LastAskedModel" "where") ∈ lw_all := lw_g (lw_at lw_m6 102 rfl) rfl
theorem q1415 : (Jvm.Cond.lays "LastAskedModel" "LastAskedModel" "city" "LLastAskedModel$City;") ∈ lw_all := lw_g (lw_at lw_m6 103 rfl) rfl
theorem q1416 : (Jvm.Cond.soleField "LastAskedModel" "city") ∈ lw_all := lw_g (lw_at lw_m6 104 rfl) rfl
theorem q1417 : (Jvm.Cond.lays "LastAskedModel" "LastAskedModel" "read" "LLastAskedModel$City;") ∈ lw_all := lw_g (lw_at lw_m6 105 rfl) rfl
theorem q1418 : (Jvm.Cond.soleField "LastAskedModel" "read") ∈ lw_all := lw_g (lw_at lw_m6 106 rfl) rfl
theorem q1419 : (Jvm.Cond.laysFinal "LastAskedModel" "LastAskedModel" "tape" "[B") ∈ lw_all := lw_g (lw_at lw_m6 107 rfl) rfl
theorem q1420 : (Jvm.Cond.soleField "LastAskedModel" "tape") ∈ lw_all := lw_g (lw_at lw_m6 108 rfl) rfl
theorem q1421 : (Jvm.Cond.lays "LastAskedModel" "LastAskedModel" "taped" "I") ∈ lw_all := lw_g (lw_at lw_m6 109 rfl) rfl
theorem q1422 : (Jvm.Cond.soleField "LastAskedModel" "taped") ∈ lw_all := lw_g (lw_at lw_m6 110 rfl) rfl
theorem q1423 : (Jvm.Cond.lays "LastAskedModel" "LastAskedModel" "size" "I") ∈ lw_all := lw_g (lw_at lw_m6 111 rfl) rfl
theorem q1424 : (Jvm.Cond.soleField "LastAskedModel" "size") ∈ lw_all := lw_g (lw_at lw_m6 112 rfl) rfl
theorem q1425 : (Jvm.Cond.lays "LastAskedModel" "LastAskedModel" "spot" "I") ∈ lw_all := lw_g (lw_at lw_m6 113 rfl) rfl
theorem q1426 : (Jvm.Cond.soleField "LastAskedModel" "spot") ∈ lw_all := lw_g (lw_at lw_m6 114 rfl) rfl
theorem q1427 : (Jvm.Cond.lays "LastAskedModel" "LastAskedModel" "sort" "I") ∈ lw_all := lw_g (lw_at lw_m6 115 rfl) rfl
theorem q1428 : (Jvm.Cond.soleField "LastAskedModel" "sort") ∈ lw_all := lw_g (lw_at lw_m6 116 rfl) rfl
theorem q1429 : (Jvm.Cond.lays "LastAskedModel" "LastAskedModel" "place" "I") ∈ lw_all := lw_g (lw_at lw_m6 117 rfl) rfl
theorem q1430 : (Jvm.Cond.soleField "LastAskedModel" "place") ∈ lw_all := lw_g (lw_at lw_m6 118 rfl) rfl
theorem q1431 : (Jvm.Cond.lays "LastAskedModel" "LastAskedModel" "number" "I") ∈ lw_all := lw_g (lw_at lw_m6 119 rfl) rfl
theorem q1432 : (Jvm.Cond.soleField "LastAskedModel" "number") ∈ lw_all := lw_g (lw_at lw_m6 120 rfl) rfl
theorem q1433 : (Jvm.Cond.lays "LastAskedModel" "LastAskedModel" "fault" "I") ∈ lw_all := lw_g (lw_at lw_m6 121 rfl) rfl
theorem q1434 : (Jvm.Cond.soleField "LastAskedModel" "fault") ∈ lw_all := lw_g (lw_at lw_m6 122 rfl) rfl
theorem q1435 : (Jvm.Cond.lays "LastAskedModel" "LastAskedModel" "wrongAt" "I") ∈ lw_all := lw_g (lw_at lw_m6 123 rfl) rfl
theorem q1436 : (Jvm.Cond.soleField "LastAskedModel" "wrongAt") ∈ lw_all := lw_g (lw_at lw_m6 124 rfl) rfl
theorem q1437 : (Jvm.Cond.lays "LastAskedModel" "LastAskedModel" "word" "J") ∈ lw_all := lw_g (lw_at lw_m6 125 rfl) rfl
theorem q1438 : (Jvm.Cond.soleField "LastAskedModel" "word") ∈ lw_all := lw_g (lw_at lw_m6 126 rfl) rfl
theorem q1439 : (Jvm.Cond.lays "LastAskedModel" "LastAskedModel" "askedOf" "I") ∈ lw_all := lw_g (lw_at lw_m6 127 rfl) rfl
theorem q1440 : (Jvm.Cond.soleField "LastAskedModel" "askedOf") ∈ lw_all := lw_g (lw_at lw_m6 128 rfl) rfl
theorem q1441 : (Jvm.Cond.laysFinal "LastAskedModel" "LastAskedModel" "v" "[I") ∈ lw_all := lw_g (lw_at lw_m6 129 rfl) rfl
theorem q1442 : (Jvm.Cond.soleField "LastAskedModel" "v") ∈ lw_all := lw_g (lw_at lw_m6 130 rfl) rfl
theorem q1443 : (Jvm.Cond.laysFinal "LastAskedModel" "LastAskedModel" "x" "[I") ∈ lw_all := lw_g (lw_at lw_m6 131 rfl) rfl
theorem q1444 : (Jvm.Cond.soleField "LastAskedModel" "x") ∈ lw_all := lw_g (lw_at lw_m6 132 rfl) rfl
theorem q1445 : (Jvm.Cond.laysFinal "LastAskedModel" "LastAskedModel" "past" "[I") ∈ lw_all := lw_g (lw_at lw_m6 133 rfl) rfl
theorem q1446 : (Jvm.Cond.soleField "LastAskedModel" "past") ∈ lw_all := lw_g (lw_at lw_m6 134 rfl) rfl
theorem q1447 : (Jvm.Cond.laysFinal "LastAskedModel" "LastAskedModel" "kept" "[I") ∈ lw_all := lw_g (lw_at lw_m6 135 rfl) rfl
theorem q1448 : (Jvm.Cond.soleField "LastAskedModel" "kept") ∈ lw_all := lw_g (lw_at lw_m6 136 rfl) rfl
theorem q1449 : (Jvm.Cond.lays "LastAskedModel" "LastAskedModel" "acts" "I") ∈ lw_all := lw_g (lw_at lw_m6 137 rfl) rfl
theorem q1450 : (Jvm.Cond.soleField "LastAskedModel" "acts") ∈ lw_all := lw_g (lw_at lw_m6 138 rfl) rfl
theorem q1451 : (Jvm.Cond.lays "LastAskedModel" "LastAskedModel" "images" "I") ∈ lw_all := lw_g (lw_at lw_m6 139 rfl) rfl
theorem q1452 : (Jvm.Cond.soleField "LastAskedModel" "images") ∈ lw_all := lw_g (lw_at lw_m6 140 rfl) rfl
theorem q1453 : (Jvm.Cond.laysFinal "LastAskedModel" "LastAskedModel" "heir" "[I") ∈ lw_all := lw_g (lw_at lw_m6 141 rfl) rfl
theorem q1454 : (Jvm.Cond.soleField "LastAskedModel" "heir") ∈ lw_all := lw_g (lw_at lw_m6 142 rfl) rfl
theorem q1455 : (Jvm.Cond.laysFinal "LastAskedModel" "LastAskedModel" "then" "[I") ∈ lw_all := lw_g (lw_at lw_m6 143 rfl) rfl
theorem q1456 : (Jvm.Cond.soleField "LastAskedModel" "then") ∈ lw_all := lw_g (lw_at lw_m6 144 rfl) rfl
theorem q1457 : (Jvm.Cond.lays "LastAskedModel" "LastAskedModel" "catGets" "I") ∈ lw_all := lw_g (lw_at lw_m6 145 rfl) rfl
theorem q1458 : (Jvm.Cond.soleField "LastAskedModel" "catGets") ∈ lw_all := lw_g (lw_at lw_m6 146 rfl) rfl
theorem q1459 : (Jvm.Cond.lays "LastAskedModel" "LastAskedModel" "whole" "J") ∈ lw_all := lw_g (lw_at lw_m6 147 rfl) rfl
theorem q1460 : (Jvm.Cond.soleField "LastAskedModel" "whole") ∈ lw_all := lw_g (lw_at lw_m6 148 rfl) rfl
theorem q1461 : (Jvm.Cond.lays "LastAskedModel" "LastAskedModel" "bestSum" "J") ∈ lw_all := lw_g (lw_at lw_m6 149 rfl) rfl
theorem q1462 : (Jvm.Cond.soleField "LastAskedModel" "bestSum") ∈ lw_all := lw_g (lw_at lw_m6 150 rfl) rfl
theorem q1463 : (Jvm.Cond.laysFinal "LastAskedModel" "LastAskedModel" "come" "[I") ∈ lw_all := lw_g (lw_at lw_m6 151 rfl) rfl
theorem q1464 : (Jvm.Cond.soleField "LastAskedModel" "come") ∈ lw_all := lw_g (lw_at lw_m6 152 rfl) rfl
theorem q1465 : (Jvm.Cond.laysFinal "LastAskedModel" "LastAskedModel" "comeThen" "[I") ∈ lw_all := lw_g (lw_at lw_m6 153 rfl) rfl
theorem q1466 : (Jvm.Cond.soleField "LastAskedModel" "comeThen") ∈ lw_all := lw_g (lw_at lw_m6 154 rfl) rfl
theorem q1467 : (Jvm.Cond.lays "LastAskedModel" "LastAskedModel" "tourHoursNow" "I") ∈ lw_all := lw_g (lw_at lw_m6 155 rfl) rfl
theorem q1468 : (Jvm.Cond.soleField "LastAskedModel" "tourHoursNow") ∈ lw_all := lw_g (lw_at lw_m6 156 rfl) rfl
theorem q1469 : (Jvm.Cond.laysFinal "LastAskedModel" "LastAskedModel" "hour" "[I") ∈ lw_all := lw_g (lw_at lw_m6 157 rfl) rfl
theorem q1470 : (Jvm.Cond.soleField "LastAskedModel" "hour") ∈ lw_all := lw_g (lw_at lw_m6 158 rfl) rfl
theorem q1471 : (Jvm.Cond.laysFinal "LastAskedModel" "LastAskedModel" "partIn" "[I") ∈ lw_all := lw_g (lw_at lw_m6 159 rfl) rfl
theorem q1472 : (Jvm.Cond.soleField "LastAskedModel" "partIn") ∈ lw_all := lw_g (lw_at lw_m6 160 rfl) rfl
theorem q1473 : (Jvm.Cond.laysFinal "LastAskedModel" "LastAskedModel" "heirIn" "[I") ∈ lw_all := lw_g (lw_at lw_m6 161 rfl) rfl
theorem q1474 : (Jvm.Cond.soleField "LastAskedModel" "heirIn") ∈ lw_all := lw_g (lw_at lw_m6 162 rfl) rfl
theorem q1475 : (Jvm.Cond.lays "LastAskedModel" "LastAskedModel" "fitsNow" "I") ∈ lw_all := lw_g (lw_at lw_m6 163 rfl) rfl
theorem q1476 : (Jvm.Cond.soleField "LastAskedModel" "fitsNow") ∈ lw_all := lw_g (lw_at lw_m6 164 rfl) rfl
theorem q1477 : (Jvm.Cond.lays "LastAskedModel" "LastAskedModel" "foundHour" "I") ∈ lw_all := lw_g (lw_at lw_m6 165 rfl) rfl
theorem q1478 : (Jvm.Cond.soleField "LastAskedModel" "foundHour") ∈ lw_all := lw_g (lw_at lw_m6 166 rfl) rfl
theorem q1479 : (Jvm.Cond.lays "LastAskedModel" "LastAskedModel" "lookLeft" "I") ∈ lw_all := lw_g (lw_at lw_m6 167 rfl) rfl
theorem q1480 : (Jvm.Cond.soleField "LastAskedModel" "lookLeft") ∈ lw_all := lw_g (lw_at lw_m6 168 rfl) rfl
theorem q1481 : (Jvm.Cond.lays "LastAskedModel" "LastAskedModel" "firstCatNow" "I") ∈ lw_all := lw_g (lw_at lw_m6 169 rfl) rfl
theorem q1482 : (Jvm.Cond.soleField "LastAskedModel" "firstCatNow") ∈ lw_all := lw_g (lw_at lw_m6 170 rfl) rfl
theorem q1483 : (Jvm.Cond.superclass "LastAskedModel" "java/lang/Object") ∈ lw_all := lw_g (lw_at lw_m6 171 rfl) rfl
theorem q1485 : (Jvm.Cond.instanceMethod ({ cls := "LastAskedModel", name := "thrown", desc := "()I" } : Jvm.MethodName)) ∈ lw_all := lw_g (lw_at lw_m6 173 rfl) rfl
theorem q1486 : (Jvm.Cond.selects "LastAskedModel" ({ cls := "LastAskedModel", name := "thrown", desc := "()I" } : Jvm.MethodName) ({ cls := "LastAskedModel", name := "thrown", desc := "()I" } : Jvm.MethodName)) ∈ lw_all := lw_g (lw_at lw_m6 174 rfl) rfl
theorem q1487 : (Jvm.Cond.code ({ cls := "LastAskedModel", name := "thrown", desc := "()I" } : Jvm.MethodName) prog_14_method_2_code (1 : Nat) (Option.some Jvm.ClassFile.FieldType.int)) ∈ lw_all := lw_g (lw_at lw_m6 175 rfl) rfl
theorem q1489 : (Jvm.Cond.instanceMethod ({ cls := "LastAskedModel", name := "feed", desc := "(IIIII)I" } : Jvm.MethodName)) ∈ lw_all := lw_g (lw_at lw_m6 177 rfl) rfl
theorem q1490 : (Jvm.Cond.selects "LastAskedModel" ({ cls := "LastAskedModel", name := "feed", desc := "(IIIII)I" } : Jvm.MethodName) ({ cls := "LastAskedModel", name := "feed", desc := "(IIIII)I" } : Jvm.MethodName)) ∈ lw_all := lw_g (lw_at lw_m6 178 rfl) rfl
theorem q1491 : (Jvm.Cond.code ({ cls := "LastAskedModel", name := "feed", desc := "(IIIII)I" } : Jvm.MethodName) prog_14_method_34_code (8 : Nat) (Option.some Jvm.ClassFile.FieldType.int)) ∈ lw_all := lw_g (lw_at lw_m6 179 rfl) rfl
theorem q1493 : (Jvm.Cond.instanceMethod ({ cls := "LastAskedModel", name := "city", desc := "(I)I" } : Jvm.MethodName)) ∈ lw_all := lw_g (lw_at lw_m6 181 rfl) rfl
theorem q1494 : (Jvm.Cond.selects "LastAskedModel" ({ cls := "LastAskedModel", name := "city", desc := "(I)I" } : Jvm.MethodName) ({ cls := "LastAskedModel", name := "city", desc := "(I)I" } : Jvm.MethodName)) ∈ lw_all := lw_g (lw_at lw_m6 182 rfl) rfl
theorem q1495 : (Jvm.Cond.code ({ cls := "LastAskedModel", name := "city", desc := "(I)I" } : Jvm.MethodName) prog_14_method_35_code (3 : Nat) (Option.some Jvm.ClassFile.FieldType.int)) ∈ lw_all := lw_g (lw_at lw_m6 183 rfl) rfl
theorem q1496 : (Jvm.Cond.methodLink "LastAskedModel" (57 : Nat) ({ cls := "LastAskedModel", name := "refused", desc := "(I)I" } : Jvm.MethodName)) ∈ lw_all := lw_g (lw_at lw_m6 184 rfl) rfl
theorem q1497 : (Jvm.Cond.privateMethod ({ cls := "LastAskedModel", name := "refused", desc := "(I)I" } : Jvm.MethodName)) ∈ lw_tbl := lw_at lw_m6 185 rfl
theorem q1498 : (Jvm.Cond.instanceMethod ({ cls := "LastAskedModel", name := "refused", desc := "(I)I" } : Jvm.MethodName)) ∈ lw_all := lw_g (lw_at lw_m6 186 rfl) rfl
theorem q1499 : (Jvm.Cond.code ({ cls := "LastAskedModel", name := "refused", desc := "(I)I" } : Jvm.MethodName) prog_14_method_3_code (2 : Nat) (Option.some Jvm.ClassFile.FieldType.int)) ∈ lw_all := lw_g (lw_at lw_m6 187 rfl) rfl
theorem q1500 : (Jvm.Cond.classLink "LastAskedModel" (153 : Nat) "LastAskedModel$City") ∈ lw_all := lw_g (lw_at lw_m6 188 rfl) rfl
theorem q1502 : (Jvm.Cond.methodLink "LastAskedModel" (276 : Nat) ({ cls := "LastAskedModel$City", name := "<init>", desc := "()V" } : Jvm.MethodName)) ∈ lw_all := lw_g (lw_at lw_m6 190 rfl) rfl
theorem q1507 : (Jvm.Cond.fieldLinkNest "LastAskedModel" (152 : Nat) "LastAskedModel$City" "hour" "I" "LastAskedModel") ∈ lw_tbl := lw_at lw_m6 195 rfl
theorem q1508 : (Jvm.Cond.fieldLinkNest "LastAskedModel" (198 : Nat) "LastAskedModel$City" "gives" "I" "LastAskedModel") ∈ lw_tbl := lw_at lw_m6 196 rfl
theorem q1510 : (Jvm.Cond.fieldLinkNest "LastAskedModel" (170 : Nat) "LastAskedModel$City" "people" "I" "LastAskedModel") ∈ lw_tbl := lw_at lw_m6 198 rfl
theorem q1511 : (Jvm.Cond.fieldLinkNest "LastAskedModel" (227 : Nat) "LastAskedModel$City" "nears" "I" "LastAskedModel") ∈ lw_tbl := lw_at lw_m6 199 rfl
theorem q1512 : (Jvm.Cond.fieldLinkNest "LastAskedModel" (247 : Nat) "LastAskedModel$City" "askeds" "I" "LastAskedModel") ∈ lw_tbl := lw_at lw_m6 200 rfl
theorem q1513 : (Jvm.Cond.fieldLinkNest "LastAskedModel" (255 : Nat) "LastAskedModel$City" "heards" "I" "LastAskedModel") ∈ lw_tbl := lw_at lw_m6 201 rfl
theorem q1514 : (Jvm.Cond.fieldLinkNest "LastAskedModel" (270 : Nat) "LastAskedModel$City" "wents" "I" "LastAskedModel") ∈ lw_tbl := lw_at lw_m6 202 rfl
theorem q1516 : (Jvm.Cond.fieldLinkNest "LastAskedModel" (220 : Nat) "LastAskedModel$City" "kind" "[I" "LastAskedModel") ∈ lw_tbl := lw_at lw_m6 204 rfl
theorem q1518 : (Jvm.Cond.fieldLinkNest "LastAskedModel" (223 : Nat) "LastAskedModel$City" "has" "[I" "LastAskedModel") ∈ lw_tbl := lw_at lw_m6 206 rfl
theorem q1520 : (Jvm.Cond.fieldLinkNest "LastAskedModel" (225 : Nat) "LastAskedModel$City" "dies" "[I" "LastAskedModel") ∈ lw_tbl := lw_at lw_m6 208 rfl
theorem q1522 : (Jvm.Cond.fieldLinkNest "LastAskedModel" (233 : Nat) "LastAskedModel$City" "near" "[I" "LastAskedModel") ∈ lw_tbl := lw_at lw_m6 210 rfl
theorem q1524 : (Jvm.Cond.fieldLinkNest "LastAskedModel" (268 : Nat) "LastAskedModel$City" "went" "[I" "LastAskedModel") ∈ lw_tbl := lw_at lw_m6 212 rfl
theorem q1526 : (Jvm.Cond.fieldLinkNest "LastAskedModel" (242 : Nat) "LastAskedModel$City" "asked" "[I" "LastAskedModel") ∈ lw_tbl := lw_at lw_m6 214 rfl
theorem q1528 : (Jvm.Cond.fieldLinkNest "LastAskedModel" (260 : Nat) "LastAskedModel$City" "by" "[I" "LastAskedModel") ∈ lw_tbl := lw_at lw_m6 216 rfl
theorem q1530 : (Jvm.Cond.fieldLinkNest "LastAskedModel" (263 : Nat) "LastAskedModel$City" "of" "[I" "LastAskedModel") ∈ lw_tbl := lw_at lw_m6 218 rfl
theorem q1532 : (Jvm.Cond.fieldLinkNest "LastAskedModel" (266 : Nat) "LastAskedModel$City" "give" "[I" "LastAskedModel") ∈ lw_tbl := lw_at lw_m6 220 rfl
theorem q1534 : (Jvm.Cond.fieldLinkNest "LastAskedModel" (216 : Nat) "LastAskedModel$City" "name" "[J" "LastAskedModel") ∈ lw_tbl := lw_at lw_m6 222 rfl
theorem q1571 : (Jvm.Cond.methodLink "LastAskedModel" (119 : Nat) ({ cls := "LastAskedModel", name := "goesOn", desc := "()V" } : Jvm.MethodName)) ∈ lw_all := lw_g (lw_at lw_m7 19 rfl) rfl
theorem q1572 : (Jvm.Cond.privateMethod ({ cls := "LastAskedModel", name := "goesOn", desc := "()V" } : Jvm.MethodName)) ∈ lw_tbl := lw_at lw_m7 20 rfl
theorem q1573 : (Jvm.Cond.instanceMethod ({ cls := "LastAskedModel", name := "goesOn", desc := "()V" } : Jvm.MethodName)) ∈ lw_all := lw_g (lw_at lw_m7 21 rfl) rfl
theorem q1574 : (Jvm.Cond.code ({ cls := "LastAskedModel", name := "goesOn", desc := "()V" } : Jvm.MethodName) prog_14_method_17_code (3 : Nat) (Option.none : Option Jvm.ClassFile.FieldType)) ∈ lw_all := lw_g (lw_at lw_m7 22 rfl) rfl
theorem q1575 : (Jvm.Cond.methodLink "LastAskedModel" (89 : Nat) ({ cls := "LastAskedModel", name := "byteAt", desc := "(I)I" } : Jvm.MethodName)) ∈ lw_all := lw_g (lw_at lw_m7 23 rfl) rfl
theorem q1576 : (Jvm.Cond.privateMethod ({ cls := "LastAskedModel", name := "byteAt", desc := "(I)I" } : Jvm.MethodName)) ∈ lw_tbl := lw_at lw_m7 24 rfl
theorem q1577 : (Jvm.Cond.instanceMethod ({ cls := "LastAskedModel", name := "byteAt", desc := "(I)I" } : Jvm.MethodName)) ∈ lw_all := lw_g (lw_at lw_m7 25 rfl) rfl
theorem q1578 : (Jvm.Cond.code ({ cls := "LastAskedModel", name := "byteAt", desc := "(I)I" } : Jvm.MethodName) prog_14_method_13_code (2 : Nat) (Option.some Jvm.ClassFile.FieldType.int)) ∈ lw_all := lw_g (lw_at lw_m7 26 rfl) rfl
theorem q1579 : (Jvm.Cond.methodLink "LastAskedModel" (95 : Nat) ({ cls := "LastAskedModel", name := "isLetter", desc := "(I)Z" } : Jvm.MethodName)) ∈ lw_all := lw_g (lw_at lw_m7 27 rfl) rfl
theorem q1580 : (Jvm.Cond.static ({ cls := "LastAskedModel", name := "isLetter", desc := "(I)Z" } : Jvm.MethodName)) ∈ lw_all := lw_g (lw_at lw_m7 28 rfl) rfl
theorem q1581 : (Jvm.Cond.code ({ cls := "LastAskedModel", name := "isLetter", desc := "(I)Z" } : Jvm.MethodName) prog_14_method_14_code (1 : Nat) (Option.some Jvm.ClassFile.FieldType.boolean)) ∈ lw_all := lw_g (lw_at lw_m7 29 rfl) rfl
theorem q1582 : (Jvm.Cond.constantLong "LastAskedModel" (77 : Nat) (32 : Int64)) ∈ lw_all := lw_g (lw_at lw_m7 30 rfl) rfl
theorem q1583 : (Jvm.Cond.methodLink "LastAskedModel" (103 : Nat) ({ cls := "LastAskedModel", name := "isDigit", desc := "(I)Z" } : Jvm.MethodName)) ∈ lw_all := lw_g (lw_at lw_m7 31 rfl) rfl
theorem q1584 : (Jvm.Cond.static ({ cls := "LastAskedModel", name := "isDigit", desc := "(I)Z" } : Jvm.MethodName)) ∈ lw_all := lw_g (lw_at lw_m7 32 rfl) rfl
theorem q1585 : (Jvm.Cond.code ({ cls := "LastAskedModel", name := "isDigit", desc := "(I)Z" } : Jvm.MethodName) prog_14_method_15_code (1 : Nat) (Option.some Jvm.ClassFile.FieldType.boolean)) ∈ lw_all := lw_g (lw_at lw_m7 33 rfl) rfl
theorem q1586 : (Jvm.Cond.methodLink "LastAskedModel" (277 : Nat) ({ cls := "LastAskedModel", name := "readAll", desc := "()V" } : Jvm.MethodName)) ∈ lw_all := lw_g (lw_at lw_m7 34 rfl) rfl
theorem q1587 : (Jvm.Cond.privateMethod ({ cls := "LastAskedModel", name := "readAll", desc := "()V" } : Jvm.MethodName)) ∈ lw_tbl := lw_at lw_m7 35 rfl
theorem q1588 : (Jvm.Cond.instanceMethod ({ cls := "LastAskedModel", name := "readAll", desc := "()V" } : Jvm.MethodName)) ∈ lw_all := lw_g (lw_at lw_m7 36 rfl) rfl
theorem q1589 : (Jvm.Cond.code ({ cls := "LastAskedModel", name := "readAll", desc := "()V" } : Jvm.MethodName) prog_14_method_25_code (2 : Nat) (Option.none : Option Jvm.ClassFile.FieldType)) ∈ lw_all := lw_g (lw_at lw_m7 37 rfl) rfl
theorem q1590 : (Jvm.Cond.methodLink "LastAskedModel" (164 : Nat) ({ cls := "LastAskedModel", name := "readLine", desc := "()V" } : Jvm.MethodName)) ∈ lw_all := lw_g (lw_at lw_m7 38 rfl) rfl
theorem q1591 : (Jvm.Cond.privateMethod ({ cls := "LastAskedModel", name := "readLine", desc := "()V" } : Jvm.MethodName)) ∈ lw_tbl := lw_at lw_m7 39 rfl
theorem q1592 : (Jvm.Cond.instanceMethod ({ cls := "LastAskedModel", name := "readLine", desc := "()V" } : Jvm.MethodName)) ∈ lw_all := lw_g (lw_at lw_m7 40 rfl) rfl
theorem q1593 : (Jvm.Cond.code ({ cls := "LastAskedModel", name := "readLine", desc := "()V" } : Jvm.MethodName) prog_14_method_26_code (1 : Nat) (Option.none : Option Jvm.ClassFile.FieldType)) ∈ lw_all := lw_g (lw_at lw_m7 41 rfl) rfl
theorem q1594 : (Jvm.Cond.stringRef "LastAskedModel" (134 : Nat) "city") ∈ lw_tbl := lw_at lw_m7 42 rfl
theorem q1595 : (Jvm.Cond.methodLink "LastAskedModel" (122 : Nat) ({ cls := "LastAskedModel", name := "isWord", desc := "(Ljava/lang/String;)Z" } : Jvm.MethodName)) ∈ lw_all := lw_g (lw_at lw_m7 43 rfl) rfl
theorem q1596 : (Jvm.Cond.privateMethod ({ cls := "LastAskedModel", name := "isWord", desc := "(Ljava/lang/String;)Z" } : Jvm.MethodName)) ∈ lw_tbl := lw_at lw_m7 44 rfl
theorem q1597 : (Jvm.Cond.instanceMethod ({ cls := "LastAskedModel", name := "isWord", desc := "(Ljava/lang/String;)Z" } : Jvm.MethodName)) ∈ lw_all := lw_g (lw_at lw_m7 45 rfl) rfl
theorem q1598 : (Jvm.Cond.code ({ cls := "LastAskedModel", name := "isWord", desc := "(Ljava/lang/String;)Z" } : Jvm.MethodName) prog_14_method_19_code (2 : Nat) (Option.some Jvm.ClassFile.FieldType.boolean)) ∈ lw_all := lw_g (lw_at lw_m7 46 rfl) rfl
theorem q1599 : (Jvm.Cond.methodLink "LastAskedModel" (115 : Nat) ({ cls := "LastAskedModel", name := "packed", desc := "(Ljava/lang/String;)J" } : Jvm.MethodName)) ∈ lw_all := lw_g (lw_at lw_m7 47 rfl) rfl
theorem q1600 : (Jvm.Cond.static ({ cls := "LastAskedModel", name := "packed", desc := "(Ljava/lang/String;)J" } : Jvm.MethodName)) ∈ lw_all := lw_g (lw_at lw_m7 48 rfl) rfl
theorem q1601 : (Jvm.Cond.code ({ cls := "LastAskedModel", name := "packed", desc := "(Ljava/lang/String;)J" } : Jvm.MethodName) prog_14_method_16_code (4 : Nat) (Option.some Jvm.ClassFile.FieldType.long)) ∈ lw_all := lw_g (lw_at lw_m7 49 rfl) rfl
theorem q1602 : (Jvm.Cond.methodLink "LastAskedModel" (71 : Nat) ({ cls := "java/lang/String", name := "length", desc := "()I" } : Jvm.MethodName)) ∈ lw_all := lw_g (lw_at lw_m7 50 rfl) rfl
theorem q1610 : (Jvm.Cond.methodLink "LastAskedModel" (79 : Nat) ({ cls := "java/lang/String", name := "charAt", desc := "(I)C" } : Jvm.MethodName)) ∈ lw_all := lw_g (lw_at lw_m7 58 rfl) rfl
theorem q1630 : (Jvm.Cond.methodLink "LastAskedModel" (173 : Nat) ({ cls := "LastAskedModel", name := "readCity", desc := "()V" } : Jvm.MethodName)) ∈ lw_all := lw_g (lw_at lw_m7 78 rfl) rfl
theorem q1631 : (Jvm.Cond.privateMethod ({ cls := "LastAskedModel", name := "readCity", desc := "()V" } : Jvm.MethodName)) ∈ lw_tbl := lw_at lw_m7 79 rfl
theorem q1632 : (Jvm.Cond.instanceMethod ({ cls := "LastAskedModel", name := "readCity", desc := "()V" } : Jvm.MethodName)) ∈ lw_all := lw_g (lw_at lw_m7 80 rfl) rfl
theorem q1633 : (Jvm.Cond.code ({ cls := "LastAskedModel", name := "readCity", desc := "()V" } : Jvm.MethodName) prog_14_method_27_code (3 : Nat) (Option.none : Option Jvm.ClassFile.FieldType)) ∈ lw_all := lw_g (lw_at lw_m7 81 rfl) rfl
theorem q1634 : (Jvm.Cond.methodLink "LastAskedModel" (126 : Nat) ({ cls := "LastAskedModel", name := "flaw", desc := "(I)V" } : Jvm.MethodName)) ∈ lw_all := lw_g (lw_at lw_m7 82 rfl) rfl
theorem q1635 : (Jvm.Cond.privateMethod ({ cls := "LastAskedModel", name := "flaw", desc := "(I)V" } : Jvm.MethodName)) ∈ lw_tbl := lw_at lw_m7 83 rfl
theorem q1636 : (Jvm.Cond.instanceMethod ({ cls := "LastAskedModel", name := "flaw", desc := "(I)V" } : Jvm.MethodName)) ∈ lw_all := lw_g (lw_at lw_m7 84 rfl) rfl
theorem q1637 : (Jvm.Cond.code ({ cls := "LastAskedModel", name := "flaw", desc := "(I)V" } : Jvm.MethodName) prog_14_method_18_code (2 : Nat) (Option.none : Option Jvm.ClassFile.FieldType)) ∈ lw_all := lw_g (lw_at lw_m7 85 rfl) rfl
theorem q1638 : (Jvm.Cond.stringRef "LastAskedModel" (191 : Nat) "hour") ∈ lw_tbl := lw_at lw_m7 86 rfl
theorem q1639 : (Jvm.Cond.methodLink "LastAskedModel" (192 : Nat) ({ cls := "LastAskedModel", name := "readPart", desc := "(Ljava/lang/String;II)I" } : Jvm.MethodName)) ∈ lw_all := lw_g (lw_at lw_m7 87 rfl) rfl
theorem q1640 : (Jvm.Cond.privateMethod ({ cls := "LastAskedModel", name := "readPart", desc := "(Ljava/lang/String;II)I" } : Jvm.MethodName)) ∈ lw_tbl := lw_at lw_m7 88 rfl
theorem q1641 : (Jvm.Cond.instanceMethod ({ cls := "LastAskedModel", name := "readPart", desc := "(Ljava/lang/String;II)I" } : Jvm.MethodName)) ∈ lw_all := lw_g (lw_at lw_m7 89 rfl) rfl
theorem q1642 : (Jvm.Cond.code ({ cls := "LastAskedModel", name := "readPart", desc := "(Ljava/lang/String;II)I" } : Jvm.MethodName) prog_14_method_21_code (5 : Nat) (Option.some Jvm.ClassFile.FieldType.int)) ∈ lw_all := lw_g (lw_at lw_m7 90 rfl) rfl
theorem q1643 : (Jvm.Cond.methodLink "LastAskedModel" (130 : Nat) ({ cls := "LastAskedModel", name := "in", desc := "(III)Z" } : Jvm.MethodName)) ∈ lw_all := lw_g (lw_at lw_m7 91 rfl) rfl
theorem q1644 : (Jvm.Cond.static ({ cls := "LastAskedModel", name := "in", desc := "(III)Z" } : Jvm.MethodName)) ∈ lw_all := lw_g (lw_at lw_m7 92 rfl) rfl
theorem q1645 : (Jvm.Cond.code ({ cls := "LastAskedModel", name := "in", desc := "(III)Z" } : Jvm.MethodName) prog_14_method_8_code (3 : Nat) (Option.some Jvm.ClassFile.FieldType.boolean)) ∈ lw_all := lw_g (lw_at lw_m7 93 rfl) rfl
theorem q1646 : (Jvm.Cond.stringRef "LastAskedModel" (196 : Nat) "gives") ∈ lw_tbl := lw_at lw_m7 94 rfl
theorem q1647 : (Jvm.Cond.stringRef "LastAskedModel" (136 : Nat) "person") ∈ lw_tbl := lw_at lw_m7 95 rfl
theorem q1648 : (Jvm.Cond.methodLink "LastAskedModel" (176 : Nat) ({ cls := "LastAskedModel", name := "readPerson", desc := "()V" } : Jvm.MethodName)) ∈ lw_all := lw_g (lw_at lw_m7 96 rfl) rfl
theorem q1649 : (Jvm.Cond.privateMethod ({ cls := "LastAskedModel", name := "readPerson", desc := "()V" } : Jvm.MethodName)) ∈ lw_tbl := lw_at lw_m7 97 rfl
theorem q1650 : (Jvm.Cond.instanceMethod ({ cls := "LastAskedModel", name := "readPerson", desc := "()V" } : Jvm.MethodName)) ∈ lw_all := lw_g (lw_at lw_m7 98 rfl) rfl
theorem q1651 : (Jvm.Cond.code ({ cls := "LastAskedModel", name := "readPerson", desc := "()V" } : Jvm.MethodName) prog_14_method_28_code (7 : Nat) (Option.none : Option Jvm.ClassFile.FieldType)) ∈ lw_all := lw_g (lw_at lw_m7 99 rfl) rfl
theorem q1652 : (Jvm.Cond.methodLink "LastAskedModel" (200 : Nat) ({ cls := "LastAskedModel", name := "lineBegins", desc := "(II)V" } : Jvm.MethodName)) ∈ lw_all := lw_g (lw_at lw_m7 100 rfl) rfl
theorem q1653 : (Jvm.Cond.privateMethod ({ cls := "LastAskedModel", name := "lineBegins", desc := "(II)V" } : Jvm.MethodName)) ∈ lw_tbl := lw_at lw_m7 101 rfl
theorem q1654 : (Jvm.Cond.instanceMethod ({ cls := "LastAskedModel", name := "lineBegins", desc := "(II)V" } : Jvm.MethodName)) ∈ lw_all := lw_g (lw_at lw_m7 102 rfl) rfl
theorem q1655 : (Jvm.Cond.code ({ cls := "LastAskedModel", name := "lineBegins", desc := "(II)V" } : Jvm.MethodName) prog_14_method_23_code (3 : Nat) (Option.none : Option Jvm.ClassFile.FieldType)) ∈ lw_all := lw_g (lw_at lw_m7 103 rfl) rfl
theorem q1656 : (Jvm.Cond.methodLink "LastAskedModel" (156 : Nat) ({ cls := "LastAskedModel", name := "isName", desc := "()Z" } : Jvm.MethodName)) ∈ lw_all := lw_g (lw_at lw_m7 104 rfl) rfl
theorem q1657 : (Jvm.Cond.privateMethod ({ cls := "LastAskedModel", name := "isName", desc := "()Z" } : Jvm.MethodName)) ∈ lw_tbl := lw_at lw_m7 105 rfl
theorem q1658 : (Jvm.Cond.instanceMethod ({ cls := "LastAskedModel", name := "isName", desc := "()Z" } : Jvm.MethodName)) ∈ lw_all := lw_g (lw_at lw_m7 106 rfl) rfl
theorem q1659 : (Jvm.Cond.code ({ cls := "LastAskedModel", name := "isName", desc := "()Z" } : Jvm.MethodName) prog_14_method_22_code (1 : Nat) (Option.some Jvm.ClassFile.FieldType.boolean)) ∈ lw_all := lw_g (lw_at lw_m7 107 rfl) rfl
theorem q1660 : (Jvm.Cond.stringRef "LastAskedModel" (138 : Nat) "near") ∈ lw_tbl := lw_at lw_m7 108 rfl
theorem q1661 : (Jvm.Cond.stringRef "LastAskedModel" (140 : Nat) "asked") ∈ lw_tbl := lw_at lw_m7 109 rfl
theorem q1662 : (Jvm.Cond.stringRef "LastAskedModel" (142 : Nat) "heard") ∈ lw_tbl := lw_at lw_m7 110 rfl
theorem q1663 : (Jvm.Cond.stringRef "LastAskedModel" (144 : Nat) "went") ∈ lw_tbl := lw_at lw_m7 111 rfl
theorem q1664 : (Jvm.Cond.stringRef "LastAskedModel" (146 : Nat) "cat") ∈ lw_tbl := lw_at lw_m7 112 rfl
theorem q1665 : (Jvm.Cond.methodLink "LastAskedModel" (160 : Nat) ({ cls := "LastAskedModel$City", name := "find", desc := "(J)I" } : Jvm.MethodName)) ∈ lw_all := lw_g (lw_at lw_m7 113 rfl) rfl
theorem q1669 : (Jvm.Cond.stringRef "LastAskedModel" (204 : Nat) "plain") ∈ lw_tbl := lw_at lw_m7 117 rfl
theorem q1670 : (Jvm.Cond.stringRef "LastAskedModel" (206 : Nat) "shut") ∈ lw_tbl := lw_at lw_m7 118 rfl
theorem q1671 : (Jvm.Cond.stringRef "LastAskedModel" (208 : Nat) "walled") ∈ lw_tbl := lw_at lw_m7 119 rfl
theorem q1672 : (Jvm.Cond.stringRef "LastAskedModel" (210 : Nat) "doctor") ∈ lw_tbl := lw_at lw_m7 120 rfl
theorem q1673 : (Jvm.Cond.stringRef "LastAskedModel" (212 : Nat) "has") ∈ lw_tbl := lw_at lw_m7 121 rfl
theorem q1674 : (Jvm.Cond.stringRef "LastAskedModel" (214 : Nat) "dies") ∈ lw_tbl := lw_at lw_m7 122 rfl
theorem q1675 : (Jvm.Cond.methodLink "LastAskedModel" (179 : Nat) ({ cls := "LastAskedModel", name := "readNear", desc := "()V" } : Jvm.MethodName)) ∈ lw_all := lw_g (lw_at lw_m7 123 rfl) rfl
theorem q1676 : (Jvm.Cond.privateMethod ({ cls := "LastAskedModel", name := "readNear", desc := "()V" } : Jvm.MethodName)) ∈ lw_tbl := lw_at lw_m7 124 rfl
theorem q1677 : (Jvm.Cond.instanceMethod ({ cls := "LastAskedModel", name := "readNear", desc := "()V" } : Jvm.MethodName)) ∈ lw_all := lw_g (lw_at lw_m7 125 rfl) rfl
theorem q1678 : (Jvm.Cond.code ({ cls := "LastAskedModel", name := "readNear", desc := "()V" } : Jvm.MethodName) prog_14_method_29_code (3 : Nat) (Option.none : Option Jvm.ClassFile.FieldType)) ∈ lw_all := lw_g (lw_at lw_m7 126 rfl) rfl
theorem q1679 : (Jvm.Cond.methodLink "LastAskedModel" (230 : Nat) ({ cls := "LastAskedModel", name := "personAtHand", desc := "()I" } : Jvm.MethodName)) ∈ lw_all := lw_g (lw_at lw_m7 127 rfl) rfl
theorem q1680 : (Jvm.Cond.privateMethod ({ cls := "LastAskedModel", name := "personAtHand", desc := "()I" } : Jvm.MethodName)) ∈ lw_tbl := lw_at lw_m7 128 rfl
theorem q1681 : (Jvm.Cond.instanceMethod ({ cls := "LastAskedModel", name := "personAtHand", desc := "()I" } : Jvm.MethodName)) ∈ lw_all := lw_g (lw_at lw_m7 129 rfl) rfl
theorem q1682 : (Jvm.Cond.code ({ cls := "LastAskedModel", name := "personAtHand", desc := "()I" } : Jvm.MethodName) prog_14_method_24_code (2 : Nat) (Option.some Jvm.ClassFile.FieldType.int)) ∈ lw_all := lw_g (lw_at lw_m7 130 rfl) rfl
theorem q1683 : (Jvm.Cond.methodLink "LastAskedModel" (235 : Nat) ({ cls := "LastAskedModel", name := "bit", desc := "(II)Z" } : Jvm.MethodName)) ∈ lw_all := lw_g (lw_at lw_m7 131 rfl) rfl
theorem q1684 : (Jvm.Cond.static ({ cls := "LastAskedModel", name := "bit", desc := "(II)Z" } : Jvm.MethodName)) ∈ lw_all := lw_g (lw_at lw_m7 132 rfl) rfl
theorem q1685 : (Jvm.Cond.code ({ cls := "LastAskedModel", name := "bit", desc := "(II)Z" } : Jvm.MethodName) prog_14_method_9_code (2 : Nat) (Option.some Jvm.ClassFile.FieldType.boolean)) ∈ lw_all := lw_g (lw_at lw_m7 133 rfl) rfl
theorem q1686 : (Jvm.Cond.methodLink "LastAskedModel" (182 : Nat) ({ cls := "LastAskedModel", name := "readAsked", desc := "()V" } : Jvm.MethodName)) ∈ lw_all := lw_g (lw_at lw_m7 134 rfl) rfl
theorem q1687 : (Jvm.Cond.privateMethod ({ cls := "LastAskedModel", name := "readAsked", desc := "()V" } : Jvm.MethodName)) ∈ lw_tbl := lw_at lw_m7 135 rfl
theorem q1688 : (Jvm.Cond.instanceMethod ({ cls := "LastAskedModel", name := "readAsked", desc := "()V" } : Jvm.MethodName)) ∈ lw_all := lw_g (lw_at lw_m7 136 rfl) rfl
theorem q1689 : (Jvm.Cond.code ({ cls := "LastAskedModel", name := "readAsked", desc := "()V" } : Jvm.MethodName) prog_14_method_31_code (3 : Nat) (Option.none : Option Jvm.ClassFile.FieldType)) ∈ lw_all := lw_g (lw_at lw_m7 137 rfl) rfl
theorem q1690 : (Jvm.Cond.methodLink "LastAskedModel" (250 : Nat) ({ cls := "LastAskedModel", name := "readPair", desc := "()I" } : Jvm.MethodName)) ∈ lw_all := lw_g (lw_at lw_m7 138 rfl) rfl
theorem q1691 : (Jvm.Cond.privateMethod ({ cls := "LastAskedModel", name := "readPair", desc := "()I" } : Jvm.MethodName)) ∈ lw_tbl := lw_at lw_m7 139 rfl
theorem q1692 : (Jvm.Cond.instanceMethod ({ cls := "LastAskedModel", name := "readPair", desc := "()I" } : Jvm.MethodName)) ∈ lw_all := lw_g (lw_at lw_m7 140 rfl) rfl
theorem q1693 : (Jvm.Cond.code ({ cls := "LastAskedModel", name := "readPair", desc := "()I" } : Jvm.MethodName) prog_14_method_30_code (2 : Nat) (Option.some Jvm.ClassFile.FieldType.int)) ∈ lw_all := lw_g (lw_at lw_m7 141 rfl) rfl
theorem q1694 : (Jvm.Cond.methodLink "LastAskedModel" (244 : Nat) ({ cls := "LastAskedModel$City", name := "mayAsk", desc := "(II)Z" } : Jvm.MethodName)) ∈ lw_all := lw_g (lw_at lw_m7 142 rfl) rfl
theorem q1699 : (Jvm.Cond.stringRef "LastAskedModel" (253 : Nat) "at") ∈ lw_tbl := lw_at lw_m7 147 rfl
theorem q1700 : (Jvm.Cond.methodLink "LastAskedModel" (185 : Nat) ({ cls := "LastAskedModel", name := "readHeard", desc := "()V" } : Jvm.MethodName)) ∈ lw_all := lw_g (lw_at lw_m7 148 rfl) rfl
theorem q1701 : (Jvm.Cond.privateMethod ({ cls := "LastAskedModel", name := "readHeard", desc := "()V" } : Jvm.MethodName)) ∈ lw_tbl := lw_at lw_m7 149 rfl
theorem q1702 : (Jvm.Cond.instanceMethod ({ cls := "LastAskedModel", name := "readHeard", desc := "()V" } : Jvm.MethodName)) ∈ lw_all := lw_g (lw_at lw_m7 150 rfl) rfl
theorem q1703 : (Jvm.Cond.code ({ cls := "LastAskedModel", name := "readHeard", desc := "()V" } : Jvm.MethodName) prog_14_method_32_code (4 : Nat) (Option.none : Option Jvm.ClassFile.FieldType)) ∈ lw_all := lw_g (lw_at lw_m7 151 rfl) rfl
theorem q1704 : (Jvm.Cond.stringRef "LastAskedModel" (258 : Nat) "give") ∈ lw_tbl := lw_at lw_m7 152 rfl
theorem q1705 : (Jvm.Cond.methodLink "LastAskedModel" (188 : Nat) ({ cls := "LastAskedModel", name := "readWent", desc := "()V" } : Jvm.MethodName)) ∈ lw_all := lw_g (lw_at lw_m7 153 rfl) rfl
theorem q1706 : (Jvm.Cond.privateMethod ({ cls := "LastAskedModel", name := "readWent", desc := "()V" } : Jvm.MethodName)) ∈ lw_tbl := lw_at lw_m7 154 rfl
theorem q1707 : (Jvm.Cond.instanceMethod ({ cls := "LastAskedModel", name := "readWent", desc := "()V" } : Jvm.MethodName)) ∈ lw_all := lw_g (lw_at lw_m7 155 rfl) rfl
theorem q1708 : (Jvm.Cond.code ({ cls := "LastAskedModel", name := "readWent", desc := "()V" } : Jvm.MethodName) prog_14_method_33_code (3 : Nat) (Option.none : Option Jvm.ClassFile.FieldType)) ∈ lw_all := lw_g (lw_at lw_m7 156 rfl) rfl
theorem q1709 : (Jvm.Cond.methodLink "LastAskedModel" (167 : Nat) ({ cls := "LastAskedModel", name := "eatsSemicolon", desc := "()Z" } : Jvm.MethodName)) ∈ lw_all := lw_g (lw_at lw_m7 157 rfl) rfl
theorem q1710 : (Jvm.Cond.privateMethod ({ cls := "LastAskedModel", name := "eatsSemicolon", desc := "()Z" } : Jvm.MethodName)) ∈ lw_tbl := lw_at lw_m7 158 rfl
theorem q1711 : (Jvm.Cond.instanceMethod ({ cls := "LastAskedModel", name := "eatsSemicolon", desc := "()Z" } : Jvm.MethodName)) ∈ lw_all := lw_g (lw_at lw_m7 159 rfl) rfl
theorem q1712 : (Jvm.Cond.code ({ cls := "LastAskedModel", name := "eatsSemicolon", desc := "()Z" } : Jvm.MethodName) prog_14_method_20_code (2 : Nat) (Option.some Jvm.ClassFile.FieldType.boolean)) ∈ lw_all := lw_g (lw_at lw_m7 160 rfl) rfl
theorem q1713 : (Jvm.Cond.methodLink "LastAskedModel" (282 : Nat) ({ cls := "LastAskedModel", name := "asTold", desc := "()V" } : Jvm.MethodName)) ∈ lw_all := lw_g (lw_at lw_m7 161 rfl) rfl
theorem q1714 : (Jvm.Cond.privateMethod ({ cls := "LastAskedModel", name := "asTold", desc := "()V" } : Jvm.MethodName)) ∈ lw_tbl := lw_at lw_m7 162 rfl
theorem q1715 : (Jvm.Cond.instanceMethod ({ cls := "LastAskedModel", name := "asTold", desc := "()V" } : Jvm.MethodName)) ∈ lw_all := lw_g (lw_at lw_m7 163 rfl) rfl
theorem q1716 : (Jvm.Cond.code ({ cls := "LastAskedModel", name := "asTold", desc := "()V" } : Jvm.MethodName) prog_14_method_41_code (2 : Nat) (Option.none : Option Jvm.ClassFile.FieldType)) ∈ lw_all := lw_g (lw_at lw_m7 164 rfl) rfl
theorem q1717 : (Jvm.Cond.methodLink "LastAskedModel" (61 : Nat) ({ cls := "LastAskedModel", name := "good", desc := "(I)I" } : Jvm.MethodName)) ∈ lw_all := lw_g (lw_at lw_m7 165 rfl) rfl
theorem q1718 : (Jvm.Cond.privateMethod ({ cls := "LastAskedModel", name := "good", desc := "(I)I" } : Jvm.MethodName)) ∈ lw_tbl := lw_at lw_m7 166 rfl
theorem q1719 : (Jvm.Cond.instanceMethod ({ cls := "LastAskedModel", name := "good", desc := "(I)I" } : Jvm.MethodName)) ∈ lw_all := lw_g (lw_at lw_m7 167 rfl) rfl
theorem q1720 : (Jvm.Cond.code ({ cls := "LastAskedModel", name := "good", desc := "(I)I" } : Jvm.MethodName) prog_14_method_6_code (2 : Nat) (Option.some Jvm.ClassFile.FieldType.int)) ∈ lw_all := lw_g (lw_at lw_m7 168 rfl) rfl
theorem q1722 : (Jvm.Cond.instanceMethod ({ cls := "LastAskedModel", name := "fault", desc := "()I" } : Jvm.MethodName)) ∈ lw_all := lw_g (lw_at lw_m7 170 rfl) rfl
theorem q1723 : (Jvm.Cond.selects "LastAskedModel" ({ cls := "LastAskedModel", name := "fault", desc := "()I" } : Jvm.MethodName) ({ cls := "LastAskedModel", name := "fault", desc := "()I" } : Jvm.MethodName)) ∈ lw_all := lw_g (lw_at lw_m7 171 rfl) rfl
theorem q1724 : (Jvm.Cond.code ({ cls := "LastAskedModel", name := "fault", desc := "()I" } : Jvm.MethodName) prog_14_method_36_code (1 : Nat) (Option.some Jvm.ClassFile.FieldType.int)) ∈ lw_all := lw_g (lw_at lw_m7 172 rfl) rfl
theorem q1726 : (Jvm.Cond.instanceMethod ({ cls := "LastAskedModel", name := "where", desc := "()I" } : Jvm.MethodName)) ∈ lw_all := lw_g (lw_at lw_m7 174 rfl) rfl
theorem q1727 : (Jvm.Cond.selects "LastAskedModel" ({ cls := "LastAskedModel", name := "where", desc := "()I" } : Jvm.MethodName) ({ cls := "LastAskedModel", name := "where", desc := "()I" } : Jvm.MethodName)) ∈ lw_all := lw_g (lw_at lw_m7 175 rfl) rfl
theorem q1728 : (Jvm.Cond.code ({ cls := "LastAskedModel", name := "where", desc := "()I" } : Jvm.MethodName) prog_14_method_37_code (1 : Nat) (Option.some Jvm.ClassFile.FieldType.int)) ∈ lw_all := lw_g (lw_at lw_m7 176 rfl) rfl
theorem q1730 : (Jvm.Cond.instanceMethod ({ cls := "LastAskedModel", name := "person", desc := "(II)I" } : Jvm.MethodName)) ∈ lw_all := lw_g (lw_at lw_m7 178 rfl) rfl
theorem q1731 : (Jvm.Cond.selects "LastAskedModel" ({ cls := "LastAskedModel", name := "person", desc := "(II)I" } : Jvm.MethodName) ({ cls := "LastAskedModel", name := "person", desc := "(II)I" } : Jvm.MethodName)) ∈ lw_all := lw_g (lw_at lw_m7 179 rfl) rfl
theorem q1732 : (Jvm.Cond.code ({ cls := "LastAskedModel", name := "person", desc := "(II)I" } : Jvm.MethodName) prog_14_method_53_code (3 : Nat) (Option.some Jvm.ClassFile.FieldType.int)) ∈ lw_all := lw_g (lw_at lw_m7 180 rfl) rfl
theorem q1733 : (Jvm.Cond.methodLink "LastAskedModel" (291 : Nat) ({ cls := "LastAskedModel", name := "isPerson", desc := "(I)Z" } : Jvm.MethodName)) ∈ lw_all := lw_g (lw_at lw_m7 181 rfl) rfl
theorem q1734 : (Jvm.Cond.privateMethod ({ cls := "LastAskedModel", name := "isPerson", desc := "(I)Z" } : Jvm.MethodName)) ∈ lw_tbl := lw_at lw_m7 182 rfl
theorem q1735 : (Jvm.Cond.instanceMethod ({ cls := "LastAskedModel", name := "isPerson", desc := "(I)Z" } : Jvm.MethodName)) ∈ lw_all := lw_g (lw_at lw_m7 183 rfl) rfl
theorem q1736 : (Jvm.Cond.code ({ cls := "LastAskedModel", name := "isPerson", desc := "(I)Z" } : Jvm.MethodName) prog_14_method_38_code (2 : Nat) (Option.some Jvm.ClassFile.FieldType.boolean)) ∈ lw_all := lw_g (lw_at lw_m7 184 rfl) rfl
theorem q1737 : (Jvm.Cond.methodLink "LastAskedModel" (321 : Nat) ({ cls := "LastAskedModel", name := "near", desc := "(I)I" } : Jvm.MethodName)) ∈ lw_all := lw_g (lw_at lw_m7 185 rfl) rfl
theorem q1738 : (Jvm.Cond.privateMethod ({ cls := "LastAskedModel", name := "near", desc := "(I)I" } : Jvm.MethodName)) ∈ lw_tbl := lw_at lw_m7 186 rfl
theorem q1739 : (Jvm.Cond.instanceMethod ({ cls := "LastAskedModel", name := "near", desc := "(I)I" } : Jvm.MethodName)) ∈ lw_all := lw_g (lw_at lw_m7 187 rfl) rfl
theorem q1740 : (Jvm.Cond.code ({ cls := "LastAskedModel", name := "near", desc := "(I)I" } : Jvm.MethodName) prog_14_method_50_code (2 : Nat) (Option.some Jvm.ClassFile.FieldType.int)) ∈ lw_all := lw_g (lw_at lw_m7 188 rfl) rfl
theorem q1741 : (Jvm.Cond.methodLink "LastAskedModel" (318 : Nat) ({ cls := "LastAskedModel", name := "canAsk", desc := "(I)I" } : Jvm.MethodName)) ∈ lw_all := lw_g (lw_at lw_m7 189 rfl) rfl
theorem q1742 : (Jvm.Cond.privateMethod ({ cls := "LastAskedModel", name := "canAsk", desc := "(I)I" } : Jvm.MethodName)) ∈ lw_tbl := lw_at lw_m7 190 rfl
theorem q1743 : (Jvm.Cond.instanceMethod ({ cls := "LastAskedModel", name := "canAsk", desc := "(I)I" } : Jvm.MethodName)) ∈ lw_all := lw_g (lw_at lw_m7 191 rfl) rfl
theorem q1744 : (Jvm.Cond.code ({ cls := "LastAskedModel", name := "canAsk", desc := "(I)I" } : Jvm.MethodName) prog_14_method_51_code (4 : Nat) (Option.some Jvm.ClassFile.FieldType.int)) ∈ lw_all := lw_g (lw_at lw_m7 192 rfl) rfl
theorem q1745 : (Jvm.Cond.methodLink "LastAskedModel" (323 : Nat) ({ cls := "LastAskedModel", name := "canBeAsked", desc := "(I)I" } : Jvm.MethodName)) ∈ lw_all := lw_g (lw_at lw_m7 193 rfl) rfl
theorem q1746 : (Jvm.Cond.privateMethod ({ cls := "LastAskedModel", name := "canBeAsked", desc := "(I)I" } : Jvm.MethodName)) ∈ lw_tbl := lw_at lw_m7 194 rfl
theorem q1747 : (Jvm.Cond.instanceMethod ({ cls := "LastAskedModel", name := "canBeAsked", desc := "(I)I" } : Jvm.MethodName)) ∈ lw_all := lw_g (lw_at lw_m7 195 rfl) rfl
theorem q1748 : (Jvm.Cond.code ({ cls := "LastAskedModel", name := "canBeAsked", desc := "(I)I" } : Jvm.MethodName) prog_14_method_52_code (4 : Nat) (Option.some Jvm.ClassFile.FieldType.int)) ∈ lw_all := lw_g (lw_at lw_m7 196 rfl) rfl
theorem q1750 : (Jvm.Cond.instanceMethod ({ cls := "LastAskedModel", name := "register", desc := "(II)I" } : Jvm.MethodName)) ∈ lw_all := lw_g (lw_at lw_m7 198 rfl) rfl
theorem q1751 : (Jvm.Cond.selects "LastAskedModel" ({ cls := "LastAskedModel", name := "register", desc := "(II)I" } : Jvm.MethodName) ({ cls := "LastAskedModel", name := "register", desc := "(II)I" } : Jvm.MethodName)) ∈ lw_all := lw_g (lw_at lw_m7 199 rfl) rfl
theorem q1752 : (Jvm.Cond.code ({ cls := "LastAskedModel", name := "register", desc := "(II)I" } : Jvm.MethodName) prog_14_method_54_code (4 : Nat) (Option.some Jvm.ClassFile.FieldType.int)) ∈ lw_all := lw_g (lw_at lw_m7 200 rfl) rfl
theorem q1753 : (Jvm.Cond.methodLink "LastAskedModel" (326 : Nat) ({ cls := "LastAskedModel", name := "areTwo", desc := "(II)Z" } : Jvm.MethodName)) ∈ lw_all := lw_g (lw_at lw_m7 201 rfl) rfl
theorem q1754 : (Jvm.Cond.privateMethod ({ cls := "LastAskedModel", name := "areTwo", desc := "(II)Z" } : Jvm.MethodName)) ∈ lw_tbl := lw_at lw_m7 202 rfl
theorem q1755 : (Jvm.Cond.instanceMethod ({ cls := "LastAskedModel", name := "areTwo", desc := "(II)Z" } : Jvm.MethodName)) ∈ lw_all := lw_g (lw_at lw_m7 203 rfl) rfl
theorem q1756 : (Jvm.Cond.code ({ cls := "LastAskedModel", name := "areTwo", desc := "(II)Z" } : Jvm.MethodName) prog_14_method_39_code (3 : Nat) (Option.some Jvm.ClassFile.FieldType.boolean)) ∈ lw_all := lw_g (lw_at lw_m7 204 rfl) rfl
theorem q1758 : (Jvm.Cond.instanceMethod ({ cls := "LastAskedModel", name := "heir", desc := "(I)I" } : Jvm.MethodName)) ∈ lw_all := lw_g (lw_at lw_m7 206 rfl) rfl
theorem q1759 : (Jvm.Cond.selects "LastAskedModel" ({ cls := "LastAskedModel", name := "heir", desc := "(I)I" } : Jvm.MethodName) ({ cls := "LastAskedModel", name := "heir", desc := "(I)I" } : Jvm.MethodName)) ∈ lw_all := lw_g (lw_at lw_m7 207 rfl) rfl
theorem q1760 : (Jvm.Cond.code ({ cls := "LastAskedModel", name := "heir", desc := "(I)I" } : Jvm.MethodName) prog_14_method_56_code (3 : Nat) (Option.some Jvm.ClassFile.FieldType.int)) ∈ lw_all := lw_g (lw_at lw_m7 208 rfl) rfl
theorem q1761 : (Jvm.Cond.methodLink "LastAskedModel" (329 : Nat) ({ cls := "LastAskedModel", name := "refusesLiving", desc := "(I)I" } : Jvm.MethodName)) ∈ lw_all := lw_g (lw_at lw_m7 209 rfl) rfl
theorem q1762 : (Jvm.Cond.privateMethod ({ cls := "LastAskedModel", name := "refusesLiving", desc := "(I)I" } : Jvm.MethodName)) ∈ lw_tbl := lw_at lw_m7 210 rfl
theorem q1763 : (Jvm.Cond.instanceMethod ({ cls := "LastAskedModel", name := "refusesLiving", desc := "(I)I" } : Jvm.MethodName)) ∈ lw_all := lw_g (lw_at lw_m7 211 rfl) rfl
theorem q1764 : (Jvm.Cond.code ({ cls := "LastAskedModel", name := "refusesLiving", desc := "(I)I" } : Jvm.MethodName) prog_14_method_55_code (2 : Nat) (Option.some Jvm.ClassFile.FieldType.int)) ∈ lw_all := lw_g (lw_at lw_m7 212 rfl) rfl
theorem q1765 : (Jvm.Cond.methodLink "LastAskedModel" (315 : Nat) ({ cls := "LastAskedModel", name := "works", desc := "()V" } : Jvm.MethodName)) ∈ lw_all := lw_g (lw_at lw_m7 213 rfl) rfl
theorem q1766 : (Jvm.Cond.privateMethod ({ cls := "LastAskedModel", name := "works", desc := "()V" } : Jvm.MethodName)) ∈ lw_tbl := lw_at lw_m7 214 rfl
theorem q1767 : (Jvm.Cond.instanceMethod ({ cls := "LastAskedModel", name := "works", desc := "()V" } : Jvm.MethodName)) ∈ lw_all := lw_g (lw_at lw_m7 215 rfl) rfl
theorem q1768 : (Jvm.Cond.code ({ cls := "LastAskedModel", name := "works", desc := "()V" } : Jvm.MethodName) prog_14_method_40_code (2 : Nat) (Option.none : Option Jvm.ClassFile.FieldType)) ∈ lw_all := lw_g (lw_at lw_m7 216 rfl) rfl
theorem q1769 : (Jvm.Cond.methodLink "LastAskedModel" (300 : Nat) ({ cls := "LastAskedModel", name := "heirOf", desc := "(I)I" } : Jvm.MethodName)) ∈ lw_all := lw_g (lw_at lw_m7 217 rfl) rfl
theorem q1770 : (Jvm.Cond.privateMethod ({ cls := "LastAskedModel", name := "heirOf", desc := "(I)I" } : Jvm.MethodName)) ∈ lw_tbl := lw_at lw_m7 218 rfl
theorem q1771 : (Jvm.Cond.instanceMethod ({ cls := "LastAskedModel", name := "heirOf", desc := "(I)I" } : Jvm.MethodName)) ∈ lw_all := lw_g (lw_at lw_m7 219 rfl) rfl
theorem q1772 : (Jvm.Cond.code ({ cls := "LastAskedModel", name := "heirOf", desc := "(I)I" } : Jvm.MethodName) prog_14_method_44_code (4 : Nat) (Option.some Jvm.ClassFile.FieldType.int)) ∈ lw_all := lw_g (lw_at lw_m7 220 rfl) rfl
theorem q1773 : (Jvm.Cond.methodLink "LastAskedModel" (294 : Nat) ({ cls := "LastAskedModel", name := "isLiving", desc := "(I)Z" } : Jvm.MethodName)) ∈ lw_all := lw_g (lw_at lw_m7 221 rfl) rfl
theorem q1774 : (Jvm.Cond.privateMethod ({ cls := "LastAskedModel", name := "isLiving", desc := "(I)Z" } : Jvm.MethodName)) ∈ lw_tbl := lw_at lw_m7 222 rfl
theorem q1775 : (Jvm.Cond.instanceMethod ({ cls := "LastAskedModel", name := "isLiving", desc := "(I)Z" } : Jvm.MethodName)) ∈ lw_all := lw_g (lw_at lw_m7 223 rfl) rfl
theorem q1776 : (Jvm.Cond.code ({ cls := "LastAskedModel", name := "isLiving", desc := "(I)Z" } : Jvm.MethodName) prog_14_method_42_code (2 : Nat) (Option.some Jvm.ClassFile.FieldType.boolean)) ∈ lw_all := lw_g (lw_at lw_m7 224 rfl) rfl
theorem q1777 : (Jvm.Cond.methodLink "LastAskedModel" (297 : Nat) ({ cls := "LastAskedModel", name := "asked", desc := "(II)I" } : Jvm.MethodName)) ∈ lw_all := lw_g (lw_at lw_m7 225 rfl) rfl
theorem q1778 : (Jvm.Cond.privateMethod ({ cls := "LastAskedModel", name := "asked", desc := "(II)I" } : Jvm.MethodName)) ∈ lw_tbl := lw_at lw_m7 226 rfl
theorem q1779 : (Jvm.Cond.instanceMethod ({ cls := "LastAskedModel", name := "asked", desc := "(II)I" } : Jvm.MethodName)) ∈ lw_all := lw_g (lw_at lw_m7 227 rfl) rfl
theorem q1780 : (Jvm.Cond.code ({ cls := "LastAskedModel", name := "asked", desc := "(II)I" } : Jvm.MethodName) prog_14_method_43_code (3 : Nat) (Option.some Jvm.ClassFile.FieldType.int)) ∈ lw_all := lw_g (lw_at lw_m7 228 rfl) rfl
theorem q1782 : (Jvm.Cond.instanceMethod ({ cls := "LastAskedModel", name := "heirTo", desc := "(I)I" } : Jvm.MethodName)) ∈ lw_all := lw_g (lw_at lw_m7 230 rfl) rfl
theorem q1783 : (Jvm.Cond.selects "LastAskedModel" ({ cls := "LastAskedModel", name := "heirTo", desc := "(I)I" } : Jvm.MethodName) ({ cls := "LastAskedModel", name := "heirTo", desc := "(I)I" } : Jvm.MethodName)) ∈ lw_all := lw_g (lw_at lw_m7 231 rfl) rfl
theorem q1784 : (Jvm.Cond.code ({ cls := "LastAskedModel", name := "heirTo", desc := "(I)I" } : Jvm.MethodName) prog_14_method_58_code (2 : Nat) (Option.some Jvm.ClassFile.FieldType.int)) ∈ lw_all := lw_g (lw_at lw_m7 232 rfl) rfl
theorem q1785 : (Jvm.Cond.methodLink "LastAskedModel" (332 : Nat) ({ cls := "LastAskedModel", name := "worksWithHeirs", desc := "()V" } : Jvm.MethodName)) ∈ lw_all := lw_g (lw_at lw_m7 233 rfl) rfl
theorem q1786 : (Jvm.Cond.privateMethod ({ cls := "LastAskedModel", name := "worksWithHeirs", desc := "()V" } : Jvm.MethodName)) ∈ lw_tbl := lw_at lw_m7 234 rfl
theorem q1787 : (Jvm.Cond.instanceMethod ({ cls := "LastAskedModel", name := "worksWithHeirs", desc := "()V" } : Jvm.MethodName)) ∈ lw_all := lw_g (lw_at lw_m7 235 rfl) rfl
theorem q1788 : (Jvm.Cond.code ({ cls := "LastAskedModel", name := "worksWithHeirs", desc := "()V" } : Jvm.MethodName) prog_14_method_49_code (1 : Nat) (Option.none : Option Jvm.ClassFile.FieldType)) ∈ lw_all := lw_g (lw_at lw_m7 236 rfl) rfl
theorem q1789 : (Jvm.Cond.methodLink "LastAskedModel" (309 : Nat) ({ cls := "LastAskedModel", name := "heirs", desc := "()V" } : Jvm.MethodName)) ∈ lw_all := lw_g (lw_at lw_m7 237 rfl) rfl
theorem q1790 : (Jvm.Cond.privateMethod ({ cls := "LastAskedModel", name := "heirs", desc := "()V" } : Jvm.MethodName)) ∈ lw_tbl := lw_at lw_m7 238 rfl
theorem q1791 : (Jvm.Cond.instanceMethod ({ cls := "LastAskedModel", name := "heirs", desc := "()V" } : Jvm.MethodName)) ∈ lw_all := lw_g (lw_at lw_m7 239 rfl) rfl
theorem q1792 : (Jvm.Cond.code ({ cls := "LastAskedModel", name := "heirs", desc := "()V" } : Jvm.MethodName) prog_14_method_45_code (2 : Nat) (Option.none : Option Jvm.ClassFile.FieldType)) ∈ lw_all := lw_g (lw_at lw_m8 0 rfl) rfl
theorem q1793 : (Jvm.Cond.methodLink "LastAskedModel" (335 : Nat) ({ cls := "LastAskedModel", name := "inheritsOf", desc := "(I)I" } : Jvm.MethodName)) ∈ lw_all := lw_g (lw_at lw_m8 1 rfl) rfl
theorem q1794 : (Jvm.Cond.privateMethod ({ cls := "LastAskedModel", name := "inheritsOf", desc := "(I)I" } : Jvm.MethodName)) ∈ lw_tbl := lw_at lw_m8 2 rfl
theorem q1795 : (Jvm.Cond.instanceMethod ({ cls := "LastAskedModel", name := "inheritsOf", desc := "(I)I" } : Jvm.MethodName)) ∈ lw_all := lw_g (lw_at lw_m8 3 rfl) rfl
theorem q1796 : (Jvm.Cond.code ({ cls := "LastAskedModel", name := "inheritsOf", desc := "(I)I" } : Jvm.MethodName) prog_14_method_57_code (4 : Nat) (Option.some Jvm.ClassFile.FieldType.int)) ∈ lw_all := lw_g (lw_at lw_m8 4 rfl) rfl
theorem q1798 : (Jvm.Cond.instanceMethod ({ cls := "LastAskedModel", name := "hopes", desc := "(I)I" } : Jvm.MethodName)) ∈ lw_all := lw_g (lw_at lw_m8 6 rfl) rfl
theorem q1799 : (Jvm.Cond.selects "LastAskedModel" ({ cls := "LastAskedModel", name := "hopes", desc := "(I)I" } : Jvm.MethodName) ({ cls := "LastAskedModel", name := "hopes", desc := "(I)I" } : Jvm.MethodName)) ∈ lw_all := lw_g (lw_at lw_m8 7 rfl) rfl
theorem q1800 : (Jvm.Cond.code ({ cls := "LastAskedModel", name := "hopes", desc := "(I)I" } : Jvm.MethodName) prog_14_method_59_code (3 : Nat) (Option.some Jvm.ClassFile.FieldType.int)) ∈ lw_all := lw_g (lw_at lw_m8 8 rfl) rfl
theorem q1801 : (Jvm.Cond.methodLink "LastAskedModel" (312 : Nat) ({ cls := "LastAskedModel", name := "dying", desc := "(I)V" } : Jvm.MethodName)) ∈ lw_all := lw_g (lw_at lw_m8 9 rfl) rfl
theorem q1802 : (Jvm.Cond.privateMethod ({ cls := "LastAskedModel", name := "dying", desc := "(I)V" } : Jvm.MethodName)) ∈ lw_tbl := lw_at lw_m8 10 rfl
theorem q1803 : (Jvm.Cond.instanceMethod ({ cls := "LastAskedModel", name := "dying", desc := "(I)V" } : Jvm.MethodName)) ∈ lw_all := lw_g (lw_at lw_m8 11 rfl) rfl
theorem q1804 : (Jvm.Cond.code ({ cls := "LastAskedModel", name := "dying", desc := "(I)V" } : Jvm.MethodName) prog_14_method_47_code (4 : Nat) (Option.none : Option Jvm.ClassFile.FieldType)) ∈ lw_all := lw_g (lw_at lw_m8 12 rfl) rfl
theorem q1805 : (Jvm.Cond.methodLink "LastAskedModel" (306 : Nat) ({ cls := "LastAskedModel", name := "goes", desc := "(II)I" } : Jvm.MethodName)) ∈ lw_all := lw_g (lw_at lw_m8 13 rfl) rfl
theorem q1806 : (Jvm.Cond.privateMethod ({ cls := "LastAskedModel", name := "goes", desc := "(II)I" } : Jvm.MethodName)) ∈ lw_tbl := lw_at lw_m8 14 rfl
theorem q1807 : (Jvm.Cond.instanceMethod ({ cls := "LastAskedModel", name := "goes", desc := "(II)I" } : Jvm.MethodName)) ∈ lw_all := lw_g (lw_at lw_m8 15 rfl) rfl
theorem q1808 : (Jvm.Cond.code ({ cls := "LastAskedModel", name := "goes", desc := "(II)I" } : Jvm.MethodName) prog_14_method_46_code (5 : Nat) (Option.some Jvm.ClassFile.FieldType.int)) ∈ lw_all := lw_g (lw_at lw_m8 16 rfl) rfl
theorem q1810 : (Jvm.Cond.instanceMethod ({ cls := "LastAskedModel", name := "cat", desc := "()I" } : Jvm.MethodName)) ∈ lw_all := lw_g (lw_at lw_m8 18 rfl) rfl
theorem q1811 : (Jvm.Cond.selects "LastAskedModel" ({ cls := "LastAskedModel", name := "cat", desc := "()I" } : Jvm.MethodName) ({ cls := "LastAskedModel", name := "cat", desc := "()I" } : Jvm.MethodName)) ∈ lw_all := lw_g (lw_at lw_m8 19 rfl) rfl
theorem q1812 : (Jvm.Cond.code ({ cls := "LastAskedModel", name := "cat", desc := "()I" } : Jvm.MethodName) prog_14_method_60_code (1 : Nat) (Option.some Jvm.ClassFile.FieldType.int)) ∈ lw_all := lw_g (lw_at lw_m8 20 rfl) rfl
theorem q1814 : (Jvm.Cond.instanceMethod ({ cls := "LastAskedModel", name := "richest", desc := "()I" } : Jvm.MethodName)) ∈ lw_all := lw_g (lw_at lw_m8 22 rfl) rfl
theorem q1815 : (Jvm.Cond.selects "LastAskedModel" ({ cls := "LastAskedModel", name := "richest", desc := "()I" } : Jvm.MethodName) ({ cls := "LastAskedModel", name := "richest", desc := "()I" } : Jvm.MethodName)) ∈ lw_all := lw_g (lw_at lw_m8 23 rfl) rfl
theorem q1816 : (Jvm.Cond.code ({ cls := "LastAskedModel", name := "richest", desc := "()I" } : Jvm.MethodName) prog_14_method_61_code (3 : Nat) (Option.some Jvm.ClassFile.FieldType.int)) ∈ lw_all := lw_g (lw_at lw_m8 24 rfl) rfl
theorem q1818 : (Jvm.Cond.instanceMethod ({ cls := "LastAskedModel", name := "goesTo", desc := "(II)I" } : Jvm.MethodName)) ∈ lw_all := lw_g (lw_at lw_m8 26 rfl) rfl
theorem q1819 : (Jvm.Cond.selects "LastAskedModel" ({ cls := "LastAskedModel", name := "goesTo", desc := "(II)I" } : Jvm.MethodName) ({ cls := "LastAskedModel", name := "goesTo", desc := "(II)I" } : Jvm.MethodName)) ∈ lw_all := lw_g (lw_at lw_m8 27 rfl) rfl
theorem q1820 : (Jvm.Cond.code ({ cls := "LastAskedModel", name := "goesTo", desc := "(II)I" } : Jvm.MethodName) prog_14_method_63_code (3 : Nat) (Option.some Jvm.ClassFile.FieldType.int)) ∈ lw_all := lw_g (lw_at lw_m8 28 rfl) rfl
theorem q1821 : (Jvm.Cond.methodLink "LastAskedModel" (338 : Nat) ({ cls := "LastAskedModel", name := "canDie", desc := "(I)Z" } : Jvm.MethodName)) ∈ lw_all := lw_g (lw_at lw_m8 29 rfl) rfl
theorem q1822 : (Jvm.Cond.privateMethod ({ cls := "LastAskedModel", name := "canDie", desc := "(I)Z" } : Jvm.MethodName)) ∈ lw_tbl := lw_at lw_m8 30 rfl
theorem q1823 : (Jvm.Cond.instanceMethod ({ cls := "LastAskedModel", name := "canDie", desc := "(I)Z" } : Jvm.MethodName)) ∈ lw_all := lw_g (lw_at lw_m8 31 rfl) rfl
theorem q1824 : (Jvm.Cond.code ({ cls := "LastAskedModel", name := "canDie", desc := "(I)Z" } : Jvm.MethodName) prog_14_method_62_code (2 : Nat) (Option.some Jvm.ClassFile.FieldType.boolean)) ∈ lw_all := lw_g (lw_at lw_m8 32 rfl) rfl
theorem q1826 : (Jvm.Cond.instanceMethod ({ cls := "LastAskedModel", name := "hasThen", desc := "(II)I" } : Jvm.MethodName)) ∈ lw_all := lw_g (lw_at lw_m8 34 rfl) rfl
theorem q1827 : (Jvm.Cond.selects "LastAskedModel" ({ cls := "LastAskedModel", name := "hasThen", desc := "(II)I" } : Jvm.MethodName) ({ cls := "LastAskedModel", name := "hasThen", desc := "(II)I" } : Jvm.MethodName)) ∈ lw_all := lw_g (lw_at lw_m8 35 rfl) rfl
theorem q1828 : (Jvm.Cond.code ({ cls := "LastAskedModel", name := "hasThen", desc := "(II)I" } : Jvm.MethodName) prog_14_method_64_code (4 : Nat) (Option.some Jvm.ClassFile.FieldType.int)) ∈ lw_all := lw_g (lw_at lw_m8 36 rfl) rfl
theorem q1830 : (Jvm.Cond.instanceMethod ({ cls := "LastAskedModel", name := "catThen", desc := "(I)I" } : Jvm.MethodName)) ∈ lw_all := lw_g (lw_at lw_m8 38 rfl) rfl
theorem q1831 : (Jvm.Cond.selects "LastAskedModel" ({ cls := "LastAskedModel", name := "catThen", desc := "(I)I" } : Jvm.MethodName) ({ cls := "LastAskedModel", name := "catThen", desc := "(I)I" } : Jvm.MethodName)) ∈ lw_all := lw_g (lw_at lw_m8 39 rfl) rfl
theorem q1832 : (Jvm.Cond.code ({ cls := "LastAskedModel", name := "catThen", desc := "(I)I" } : Jvm.MethodName) prog_14_method_65_code (2 : Nat) (Option.some Jvm.ClassFile.FieldType.int)) ∈ lw_all := lw_g (lw_at lw_m8 40 rfl) rfl
theorem q1834 : (Jvm.Cond.instanceMethod ({ cls := "LastAskedModel", name := "rounds", desc := "()I" } : Jvm.MethodName)) ∈ lw_all := lw_g (lw_at lw_m8 42 rfl) rfl
theorem q1835 : (Jvm.Cond.selects "LastAskedModel" ({ cls := "LastAskedModel", name := "rounds", desc := "()I" } : Jvm.MethodName) ({ cls := "LastAskedModel", name := "rounds", desc := "()I" } : Jvm.MethodName)) ∈ lw_all := lw_g (lw_at lw_m8 43 rfl) rfl
theorem q1836 : (Jvm.Cond.code ({ cls := "LastAskedModel", name := "rounds", desc := "()I" } : Jvm.MethodName) prog_14_method_66_code (5 : Nat) (Option.some Jvm.ClassFile.FieldType.int)) ∈ lw_all := lw_g (lw_at lw_m8 44 rfl) rfl
theorem q1838 : (Jvm.Cond.instanceMethod ({ cls := "LastAskedModel", name := "worthiest", desc := "()I" } : Jvm.MethodName)) ∈ lw_all := lw_g (lw_at lw_m8 46 rfl) rfl
theorem q1839 : (Jvm.Cond.selects "LastAskedModel" ({ cls := "LastAskedModel", name := "worthiest", desc := "()I" } : Jvm.MethodName) ({ cls := "LastAskedModel", name := "worthiest", desc := "()I" } : Jvm.MethodName)) ∈ lw_all := lw_g (lw_at lw_m8 47 rfl) rfl
theorem q1840 : (Jvm.Cond.code ({ cls := "LastAskedModel", name := "worthiest", desc := "()I" } : Jvm.MethodName) prog_14_method_67_code (4 : Nat) (Option.some Jvm.ClassFile.FieldType.int)) ∈ lw_all := lw_g (lw_at lw_m8 48 rfl) rfl
theorem q1842 : (Jvm.Cond.instanceMethod ({ cls := "LastAskedModel", name := "plot", desc := "(II)I" } : Jvm.MethodName)) ∈ lw_all := lw_g (lw_at lw_m8 50 rfl) rfl
theorem q1843 : (Jvm.Cond.selects "LastAskedModel" ({ cls := "LastAskedModel", name := "plot", desc := "(II)I" } : Jvm.MethodName) ({ cls := "LastAskedModel", name := "plot", desc := "(II)I" } : Jvm.MethodName)) ∈ lw_all := lw_g (lw_at lw_m8 51 rfl) rfl
theorem q1844 : (Jvm.Cond.code ({ cls := "LastAskedModel", name := "plot", desc := "(II)I" } : Jvm.MethodName) prog_14_method_68_code (5 : Nat) (Option.some Jvm.ClassFile.FieldType.int)) ∈ lw_all := lw_g (lw_at lw_m8 52 rfl) rfl
theorem q1845 : (Jvm.Cond.methodLink "LastAskedModel" (341 : Nat) ({ cls := "LastAskedModel", name := "bits", desc := "(I)I" } : Jvm.MethodName)) ∈ lw_all := lw_g (lw_at lw_m8 53 rfl) rfl
theorem q1846 : (Jvm.Cond.static ({ cls := "LastAskedModel", name := "bits", desc := "(I)I" } : Jvm.MethodName)) ∈ lw_all := lw_g (lw_at lw_m8 54 rfl) rfl
theorem q1847 : (Jvm.Cond.code ({ cls := "LastAskedModel", name := "bits", desc := "(I)I" } : Jvm.MethodName) prog_14_method_10_code (3 : Nat) (Option.some Jvm.ClassFile.FieldType.int)) ∈ lw_all := lw_g (lw_at lw_m8 55 rfl) rfl
theorem q1849 : (Jvm.Cond.instanceMethod ({ cls := "LastAskedModel", name := "mean", desc := "(IZ)J" } : Jvm.MethodName)) ∈ lw_all := lw_g (lw_at lw_m8 57 rfl) rfl
theorem q1850 : (Jvm.Cond.selects "LastAskedModel" ({ cls := "LastAskedModel", name := "mean", desc := "(IZ)J" } : Jvm.MethodName) ({ cls := "LastAskedModel", name := "mean", desc := "(IZ)J" } : Jvm.MethodName)) ∈ lw_all := lw_g (lw_at lw_m8 58 rfl) rfl
theorem q1851 : (Jvm.Cond.code ({ cls := "LastAskedModel", name := "mean", desc := "(IZ)J" } : Jvm.MethodName) prog_14_method_72_code (5 : Nat) (Option.some Jvm.ClassFile.FieldType.long)) ∈ lw_all := lw_g (lw_at lw_m8 59 rfl) rfl
theorem q1852 : (Jvm.Cond.methodLink "LastAskedModel" (356 : Nat) ({ cls := "LastAskedModel", name := "meanOf", desc := "(I)J" } : Jvm.MethodName)) ∈ lw_all := lw_g (lw_at lw_m8 60 rfl) rfl
theorem q1853 : (Jvm.Cond.privateMethod ({ cls := "LastAskedModel", name := "meanOf", desc := "(I)J" } : Jvm.MethodName)) ∈ lw_tbl := lw_at lw_m8 61 rfl
theorem q1854 : (Jvm.Cond.instanceMethod ({ cls := "LastAskedModel", name := "meanOf", desc := "(I)J" } : Jvm.MethodName)) ∈ lw_all := lw_g (lw_at lw_m8 62 rfl) rfl
theorem q1855 : (Jvm.Cond.code ({ cls := "LastAskedModel", name := "meanOf", desc := "(I)J" } : Jvm.MethodName) prog_14_method_71_code (7 : Nat) (Option.some Jvm.ClassFile.FieldType.long)) ∈ lw_all := lw_g (lw_at lw_m8 63 rfl) rfl
theorem q1856 : (Jvm.Cond.methodLink "LastAskedModel" (349 : Nat) ({ cls := "LastAskedModel", name := "wholeOf", desc := "()V" } : Jvm.MethodName)) ∈ lw_all := lw_g (lw_at lw_m8 64 rfl) rfl
theorem q1857 : (Jvm.Cond.privateMethod ({ cls := "LastAskedModel", name := "wholeOf", desc := "()V" } : Jvm.MethodName)) ∈ lw_tbl := lw_at lw_m8 65 rfl
theorem q1858 : (Jvm.Cond.instanceMethod ({ cls := "LastAskedModel", name := "wholeOf", desc := "()V" } : Jvm.MethodName)) ∈ lw_all := lw_g (lw_at lw_m8 66 rfl) rfl
theorem q1859 : (Jvm.Cond.code ({ cls := "LastAskedModel", name := "wholeOf", desc := "()V" } : Jvm.MethodName) prog_14_method_70_code (2 : Nat) (Option.none : Option Jvm.ClassFile.FieldType)) ∈ lw_all := lw_g (lw_at lw_m8 67 rfl) rfl
theorem q1860 : (Jvm.Cond.constantLong "LastAskedModel" (347 : Nat) (100 : Int64)) ∈ lw_all := lw_g (lw_at lw_m8 68 rfl) rfl
theorem q1861 : (Jvm.Cond.methodLink "LastAskedModel" (352 : Nat) ({ cls := "LastAskedModel", name := "partOf", desc := "(I)J" } : Jvm.MethodName)) ∈ lw_all := lw_g (lw_at lw_m8 69 rfl) rfl
theorem q1862 : (Jvm.Cond.privateMethod ({ cls := "LastAskedModel", name := "partOf", desc := "(I)J" } : Jvm.MethodName)) ∈ lw_tbl := lw_at lw_m8 70 rfl
theorem q1863 : (Jvm.Cond.instanceMethod ({ cls := "LastAskedModel", name := "partOf", desc := "(I)J" } : Jvm.MethodName)) ∈ lw_all := lw_g (lw_at lw_m8 71 rfl) rfl
theorem q1864 : (Jvm.Cond.code ({ cls := "LastAskedModel", name := "partOf", desc := "(I)J" } : Jvm.MethodName) prog_14_method_69_code (5 : Nat) (Option.some Jvm.ClassFile.FieldType.long)) ∈ lw_all := lw_g (lw_at lw_m8 72 rfl) rfl
theorem q1865 : (Jvm.Cond.methodLink "LastAskedModel" (359 : Nat) ({ cls := "LastAskedModel", name := "fraction", desc := "(JJZ)J" } : Jvm.MethodName)) ∈ lw_all := lw_g (lw_at lw_m8 73 rfl) rfl
theorem q1866 : (Jvm.Cond.privateMethod ({ cls := "LastAskedModel", name := "fraction", desc := "(JJZ)J" } : Jvm.MethodName)) ∈ lw_tbl := lw_at lw_m8 74 rfl
theorem q1867 : (Jvm.Cond.instanceMethod ({ cls := "LastAskedModel", name := "fraction", desc := "(JJZ)J" } : Jvm.MethodName)) ∈ lw_all := lw_g (lw_at lw_m8 75 rfl) rfl
theorem q1868 : (Jvm.Cond.code ({ cls := "LastAskedModel", name := "fraction", desc := "(JJZ)J" } : Jvm.MethodName) prog_14_method_12_code (6 : Nat) (Option.some Jvm.ClassFile.FieldType.long)) ∈ lw_all := lw_g (lw_at lw_m8 76 rfl) rfl
theorem q1869 : (Jvm.Cond.methodLink "LastAskedModel" (64 : Nat) ({ cls := "LastAskedModel", name := "common", desc := "(JJ)J" } : Jvm.MethodName)) ∈ lw_all := lw_g (lw_at lw_m8 77 rfl) rfl
theorem q1870 : (Jvm.Cond.static ({ cls := "LastAskedModel", name := "common", desc := "(JJ)J" } : Jvm.MethodName)) ∈ lw_all := lw_g (lw_at lw_m8 78 rfl) rfl
theorem q1871 : (Jvm.Cond.code ({ cls := "LastAskedModel", name := "common", desc := "(JJ)J" } : Jvm.MethodName) prog_14_method_11_code (10 : Nat) (Option.some Jvm.ClassFile.FieldType.long)) ∈ lw_all := lw_g (lw_at lw_m8 79 rfl) rfl
theorem q1873 : (Jvm.Cond.instanceMethod ({ cls := "LastAskedModel", name := "odds", desc := "(IIZ)J" } : Jvm.MethodName)) ∈ lw_all := lw_g (lw_at lw_m8 81 rfl) rfl
theorem q1874 : (Jvm.Cond.selects "LastAskedModel" ({ cls := "LastAskedModel", name := "odds", desc := "(IIZ)J" } : Jvm.MethodName) ({ cls := "LastAskedModel", name := "odds", desc := "(IIZ)J" } : Jvm.MethodName)) ∈ lw_all := lw_g (lw_at lw_m8 82 rfl) rfl
theorem q1875 : (Jvm.Cond.code ({ cls := "LastAskedModel", name := "odds", desc := "(IIZ)J" } : Jvm.MethodName) prog_14_method_73_code (7 : Nat) (Option.some Jvm.ClassFile.FieldType.long)) ∈ lw_all := lw_g (lw_at lw_m8 83 rfl) rfl
theorem q1877 : (Jvm.Cond.instanceMethod ({ cls := "LastAskedModel", name := "passes", desc := "(IIZ)J" } : Jvm.MethodName)) ∈ lw_all := lw_g (lw_at lw_m8 85 rfl) rfl
theorem q1878 : (Jvm.Cond.selects "LastAskedModel" ({ cls := "LastAskedModel", name := "passes", desc := "(IIZ)J" } : Jvm.MethodName) ({ cls := "LastAskedModel", name := "passes", desc := "(IIZ)J" } : Jvm.MethodName)) ∈ lw_all := lw_g (lw_at lw_m8 86 rfl) rfl
theorem q1879 : (Jvm.Cond.code ({ cls := "LastAskedModel", name := "passes", desc := "(IIZ)J" } : Jvm.MethodName) prog_14_method_74_code (7 : Nat) (Option.some Jvm.ClassFile.FieldType.long)) ∈ lw_all := lw_g (lw_at lw_m8 87 rfl) rfl
theorem q1881 : (Jvm.Cond.instanceMethod ({ cls := "LastAskedModel", name := "catMean", desc := "(Z)J" } : Jvm.MethodName)) ∈ lw_all := lw_g (lw_at lw_m8 89 rfl) rfl
theorem q1882 : (Jvm.Cond.selects "LastAskedModel" ({ cls := "LastAskedModel", name := "catMean", desc := "(Z)J" } : Jvm.MethodName) ({ cls := "LastAskedModel", name := "catMean", desc := "(Z)J" } : Jvm.MethodName)) ∈ lw_all := lw_g (lw_at lw_m8 90 rfl) rfl
theorem q1883 : (Jvm.Cond.code ({ cls := "LastAskedModel", name := "catMean", desc := "(Z)J" } : Jvm.MethodName) prog_14_method_75_code (5 : Nat) (Option.some Jvm.ClassFile.FieldType.long)) ∈ lw_all := lw_g (lw_at lw_m8 91 rfl) rfl
theorem q1885 : (Jvm.Cond.instanceMethod ({ cls := "LastAskedModel", name := "best", desc := "(II)I" } : Jvm.MethodName)) ∈ lw_all := lw_g (lw_at lw_m8 93 rfl) rfl
theorem q1886 : (Jvm.Cond.selects "LastAskedModel" ({ cls := "LastAskedModel", name := "best", desc := "(II)I" } : Jvm.MethodName) ({ cls := "LastAskedModel", name := "best", desc := "(II)I" } : Jvm.MethodName)) ∈ lw_all := lw_g (lw_at lw_m8 94 rfl) rfl
theorem q1887 : (Jvm.Cond.code ({ cls := "LastAskedModel", name := "best", desc := "(II)I" } : Jvm.MethodName) prog_14_method_79_code (4 : Nat) (Option.some Jvm.ClassFile.FieldType.int)) ∈ lw_all := lw_g (lw_at lw_m8 95 rfl) rfl
theorem q1888 : (Jvm.Cond.methodLink "LastAskedModel" (371 : Nat) ({ cls := "LastAskedModel", name := "refusesNumber", desc := "(IIII)I" } : Jvm.MethodName)) ∈ lw_all := lw_g (lw_at lw_m8 96 rfl) rfl
theorem q1889 : (Jvm.Cond.privateMethod ({ cls := "LastAskedModel", name := "refusesNumber", desc := "(IIII)I" } : Jvm.MethodName)) ∈ lw_tbl := lw_at lw_m8 97 rfl
theorem q1890 : (Jvm.Cond.instanceMethod ({ cls := "LastAskedModel", name := "refusesNumber", desc := "(IIII)I" } : Jvm.MethodName)) ∈ lw_all := lw_g (lw_at lw_m8 98 rfl) rfl
theorem q1891 : (Jvm.Cond.code ({ cls := "LastAskedModel", name := "refusesNumber", desc := "(IIII)I" } : Jvm.MethodName) prog_14_method_78_code (5 : Nat) (Option.some Jvm.ClassFile.FieldType.int)) ∈ lw_all := lw_g (lw_at lw_m8 99 rfl) rfl
theorem q1892 : (Jvm.Cond.methodLink "LastAskedModel" (375 : Nat) ({ cls := "LastAskedModel", name := "bestRow", desc := "(II)I" } : Jvm.MethodName)) ∈ lw_all := lw_g (lw_at lw_m8 100 rfl) rfl
theorem q1893 : (Jvm.Cond.privateMethod ({ cls := "LastAskedModel", name := "bestRow", desc := "(II)I" } : Jvm.MethodName)) ∈ lw_tbl := lw_at lw_m8 101 rfl
theorem q1894 : (Jvm.Cond.instanceMethod ({ cls := "LastAskedModel", name := "bestRow", desc := "(II)I" } : Jvm.MethodName)) ∈ lw_all := lw_g (lw_at lw_m8 102 rfl) rfl
theorem q1895 : (Jvm.Cond.code ({ cls := "LastAskedModel", name := "bestRow", desc := "(II)I" } : Jvm.MethodName) prog_14_method_77_code (13 : Nat) (Option.some Jvm.ClassFile.FieldType.int)) ∈ lw_all := lw_g (lw_at lw_m8 103 rfl) rfl
theorem q1896 : (Jvm.Cond.constantLong "LastAskedModel" (363 : Nat) (-1 : Int64)) ∈ lw_all := lw_g (lw_at lw_m8 104 rfl) rfl
theorem q1897 : (Jvm.Cond.methodLink "LastAskedModel" (368 : Nat) ({ cls := "LastAskedModel", name := "asks", desc := "(II)V" } : Jvm.MethodName)) ∈ lw_all := lw_g (lw_at lw_m8 105 rfl) rfl
theorem q1898 : (Jvm.Cond.privateMethod ({ cls := "LastAskedModel", name := "asks", desc := "(II)V" } : Jvm.MethodName)) ∈ lw_tbl := lw_at lw_m8 106 rfl
theorem q1899 : (Jvm.Cond.instanceMethod ({ cls := "LastAskedModel", name := "asks", desc := "(II)V" } : Jvm.MethodName)) ∈ lw_all := lw_g (lw_at lw_m8 107 rfl) rfl
theorem q1900 : (Jvm.Cond.code ({ cls := "LastAskedModel", name := "asks", desc := "(II)V" } : Jvm.MethodName) prog_14_method_76_code (4 : Nat) (Option.none : Option Jvm.ClassFile.FieldType)) ∈ lw_all := lw_g (lw_at lw_m8 108 rfl) rfl
theorem q1902 : (Jvm.Cond.instanceMethod ({ cls := "LastAskedModel", name := "bestMean", desc := "(IIZ)J" } : Jvm.MethodName)) ∈ lw_all := lw_g (lw_at lw_m8 110 rfl) rfl
theorem q1903 : (Jvm.Cond.selects "LastAskedModel" ({ cls := "LastAskedModel", name := "bestMean", desc := "(IIZ)J" } : Jvm.MethodName) ({ cls := "LastAskedModel", name := "bestMean", desc := "(IIZ)J" } : Jvm.MethodName)) ∈ lw_all := lw_g (lw_at lw_m8 111 rfl) rfl
theorem q1904 : (Jvm.Cond.code ({ cls := "LastAskedModel", name := "bestMean", desc := "(IIZ)J" } : Jvm.MethodName) prog_14_method_80_code (5 : Nat) (Option.some Jvm.ClassFile.FieldType.long)) ∈ lw_all := lw_g (lw_at lw_m8 112 rfl) rfl
theorem q1906 : (Jvm.Cond.instanceMethod ({ cls := "LastAskedModel", name := "tour", desc := "(II)I" } : Jvm.MethodName)) ∈ lw_all := lw_g (lw_at lw_m8 114 rfl) rfl
theorem q1907 : (Jvm.Cond.selects "LastAskedModel" ({ cls := "LastAskedModel", name := "tour", desc := "(II)I" } : Jvm.MethodName) ({ cls := "LastAskedModel", name := "tour", desc := "(II)I" } : Jvm.MethodName)) ∈ lw_all := lw_g (lw_at lw_m8 115 rfl) rfl
theorem q1908 : (Jvm.Cond.code ({ cls := "LastAskedModel", name := "tour", desc := "(II)I" } : Jvm.MethodName) prog_14_method_84_code (4 : Nat) (Option.some Jvm.ClassFile.FieldType.int)) ∈ lw_all := lw_g (lw_at lw_m8 116 rfl) rfl
theorem q1909 : (Jvm.Cond.methodLink "LastAskedModel" (388 : Nat) ({ cls := "LastAskedModel", name := "bestTour", desc := "(II)I" } : Jvm.MethodName)) ∈ lw_all := lw_g (lw_at lw_m8 117 rfl) rfl
theorem q1910 : (Jvm.Cond.privateMethod ({ cls := "LastAskedModel", name := "bestTour", desc := "(II)I" } : Jvm.MethodName)) ∈ lw_tbl := lw_at lw_m8 118 rfl
theorem q1911 : (Jvm.Cond.instanceMethod ({ cls := "LastAskedModel", name := "bestTour", desc := "(II)I" } : Jvm.MethodName)) ∈ lw_all := lw_g (lw_at lw_m8 119 rfl) rfl
theorem q1912 : (Jvm.Cond.code ({ cls := "LastAskedModel", name := "bestTour", desc := "(II)I" } : Jvm.MethodName) prog_14_method_83_code (11 : Nat) (Option.some Jvm.ClassFile.FieldType.int)) ∈ lw_all := lw_g (lw_at lw_m8 120 rfl) rfl
theorem q1913 : (Jvm.Cond.methodLink "LastAskedModel" (381 : Nat) ({ cls := "LastAskedModel", name := "hoursBy", desc := "(III)I" } : Jvm.MethodName)) ∈ lw_all := lw_g (lw_at lw_m8 121 rfl) rfl
theorem q1914 : (Jvm.Cond.privateMethod ({ cls := "LastAskedModel", name := "hoursBy", desc := "(III)I" } : Jvm.MethodName)) ∈ lw_tbl := lw_at lw_m8 122 rfl
theorem q1915 : (Jvm.Cond.instanceMethod ({ cls := "LastAskedModel", name := "hoursBy", desc := "(III)I" } : Jvm.MethodName)) ∈ lw_all := lw_g (lw_at lw_m8 123 rfl) rfl
theorem q1916 : (Jvm.Cond.code ({ cls := "LastAskedModel", name := "hoursBy", desc := "(III)I" } : Jvm.MethodName) prog_14_method_81_code (7 : Nat) (Option.some Jvm.ClassFile.FieldType.int)) ∈ lw_all := lw_g (lw_at lw_m8 124 rfl) rfl
theorem q1917 : (Jvm.Cond.methodLink "LastAskedModel" (378 : Nat) ({ cls := "LastAskedModel", name := "spreads", desc := "(II)V" } : Jvm.MethodName)) ∈ lw_all := lw_g (lw_at lw_m8 125 rfl) rfl
theorem q1918 : (Jvm.Cond.privateMethod ({ cls := "LastAskedModel", name := "spreads", desc := "(II)V" } : Jvm.MethodName)) ∈ lw_tbl := lw_at lw_m8 126 rfl
theorem q1919 : (Jvm.Cond.instanceMethod ({ cls := "LastAskedModel", name := "spreads", desc := "(II)V" } : Jvm.MethodName)) ∈ lw_all := lw_g (lw_at lw_m8 127 rfl) rfl
theorem q1920 : (Jvm.Cond.code ({ cls := "LastAskedModel", name := "spreads", desc := "(II)V" } : Jvm.MethodName) prog_14_method_82_code (4 : Nat) (Option.none : Option Jvm.ClassFile.FieldType)) ∈ lw_all := lw_g (lw_at lw_m8 128 rfl) rfl
theorem q1922 : (Jvm.Cond.instanceMethod ({ cls := "LastAskedModel", name := "tourHours", desc := "(II)I" } : Jvm.MethodName)) ∈ lw_all := lw_g (lw_at lw_m8 130 rfl) rfl
theorem q1923 : (Jvm.Cond.selects "LastAskedModel" ({ cls := "LastAskedModel", name := "tourHours", desc := "(II)I" } : Jvm.MethodName) ({ cls := "LastAskedModel", name := "tourHours", desc := "(II)I" } : Jvm.MethodName)) ∈ lw_all := lw_g (lw_at lw_m8 131 rfl) rfl
theorem q1924 : (Jvm.Cond.code ({ cls := "LastAskedModel", name := "tourHours", desc := "(II)I" } : Jvm.MethodName) prog_14_method_85_code (4 : Nat) (Option.some Jvm.ClassFile.FieldType.int)) ∈ lw_all := lw_g (lw_at lw_m8 132 rfl) rfl
theorem q1926 : (Jvm.Cond.instanceMethod ({ cls := "LastAskedModel", name := "apart", desc := "(II)I" } : Jvm.MethodName)) ∈ lw_all := lw_g (lw_at lw_m8 134 rfl) rfl
theorem q1927 : (Jvm.Cond.selects "LastAskedModel" ({ cls := "LastAskedModel", name := "apart", desc := "(II)I" } : Jvm.MethodName) ({ cls := "LastAskedModel", name := "apart", desc := "(II)I" } : Jvm.MethodName)) ∈ lw_all := lw_g (lw_at lw_m8 135 rfl) rfl
theorem q1928 : (Jvm.Cond.code ({ cls := "LastAskedModel", name := "apart", desc := "(II)I" } : Jvm.MethodName) prog_14_method_86_code (4 : Nat) (Option.some Jvm.ClassFile.FieldType.int)) ∈ lw_all := lw_g (lw_at lw_m8 136 rfl) rfl
theorem q1930 : (Jvm.Cond.instanceMethod ({ cls := "LastAskedModel", name := "toAsk", desc := "(I)I" } : Jvm.MethodName)) ∈ lw_all := lw_g (lw_at lw_m8 138 rfl) rfl
theorem q1931 : (Jvm.Cond.selects "LastAskedModel" ({ cls := "LastAskedModel", name := "toAsk", desc := "(I)I" } : Jvm.MethodName) ({ cls := "LastAskedModel", name := "toAsk", desc := "(I)I" } : Jvm.MethodName)) ∈ lw_all := lw_g (lw_at lw_m8 139 rfl) rfl
theorem q1932 : (Jvm.Cond.code ({ cls := "LastAskedModel", name := "toAsk", desc := "(I)I" } : Jvm.MethodName) prog_14_method_87_code (5 : Nat) (Option.some Jvm.ClassFile.FieldType.int)) ∈ lw_all := lw_g (lw_at lw_m8 140 rfl) rfl
theorem q1934 : (Jvm.Cond.instanceMethod ({ cls := "LastAskedModel", name := "rivals", desc := "(II)I" } : Jvm.MethodName)) ∈ lw_all := lw_g (lw_at lw_m8 142 rfl) rfl
theorem q1935 : (Jvm.Cond.selects "LastAskedModel" ({ cls := "LastAskedModel", name := "rivals", desc := "(II)I" } : Jvm.MethodName) ({ cls := "LastAskedModel", name := "rivals", desc := "(II)I" } : Jvm.MethodName)) ∈ lw_all := lw_g (lw_at lw_m8 143 rfl) rfl
theorem q1936 : (Jvm.Cond.code ({ cls := "LastAskedModel", name := "rivals", desc := "(II)I" } : Jvm.MethodName) prog_14_method_88_code (5 : Nat) (Option.some Jvm.ClassFile.FieldType.int)) ∈ lw_all := lw_g (lw_at lw_m8 144 rfl) rfl
theorem q1938 : (Jvm.Cond.instanceMethod ({ cls := "LastAskedModel", name := "fits", desc := "()I" } : Jvm.MethodName)) ∈ lw_all := lw_g (lw_at lw_m8 146 rfl) rfl
theorem q1939 : (Jvm.Cond.selects "LastAskedModel" ({ cls := "LastAskedModel", name := "fits", desc := "()I" } : Jvm.MethodName) ({ cls := "LastAskedModel", name := "fits", desc := "()I" } : Jvm.MethodName)) ∈ lw_all := lw_g (lw_at lw_m8 147 rfl) rfl
theorem q1940 : (Jvm.Cond.code ({ cls := "LastAskedModel", name := "fits", desc := "()I" } : Jvm.MethodName) prog_14_method_93_code (1 : Nat) (Option.some Jvm.ClassFile.FieldType.int)) ∈ lw_all := lw_g (lw_at lw_m8 148 rfl) rfl
theorem q1941 : (Jvm.Cond.methodLink "LastAskedModel" (406 : Nat) ({ cls := "LastAskedModel", name := "fitting", desc := "(II)Z" } : Jvm.MethodName)) ∈ lw_all := lw_g (lw_at lw_m8 149 rfl) rfl
theorem q1942 : (Jvm.Cond.privateMethod ({ cls := "LastAskedModel", name := "fitting", desc := "(II)Z" } : Jvm.MethodName)) ∈ lw_tbl := lw_at lw_m8 150 rfl
theorem q1943 : (Jvm.Cond.instanceMethod ({ cls := "LastAskedModel", name := "fitting", desc := "(II)Z" } : Jvm.MethodName)) ∈ lw_all := lw_g (lw_at lw_m8 151 rfl) rfl
theorem q1944 : (Jvm.Cond.code ({ cls := "LastAskedModel", name := "fitting", desc := "(II)Z" } : Jvm.MethodName) prog_14_method_92_code (8 : Nat) (Option.some Jvm.ClassFile.FieldType.boolean)) ∈ lw_all := lw_g (lw_at lw_m8 152 rfl) rfl
theorem q1945 : (Jvm.Cond.methodLink "LastAskedModel" (397 : Nat) ({ cls := "LastAskedModel", name := "many", desc := "(I)I" } : Jvm.MethodName)) ∈ lw_all := lw_g (lw_at lw_m8 153 rfl) rfl
theorem q1946 : (Jvm.Cond.privateMethod ({ cls := "LastAskedModel", name := "many", desc := "(I)I" } : Jvm.MethodName)) ∈ lw_tbl := lw_at lw_m8 154 rfl
theorem q1947 : (Jvm.Cond.instanceMethod ({ cls := "LastAskedModel", name := "many", desc := "(I)I" } : Jvm.MethodName)) ∈ lw_all := lw_g (lw_at lw_m8 155 rfl) rfl
theorem q1948 : (Jvm.Cond.code ({ cls := "LastAskedModel", name := "many", desc := "(I)I" } : Jvm.MethodName) prog_14_method_90_code (2 : Nat) (Option.some Jvm.ClassFile.FieldType.int)) ∈ lw_all := lw_g (lw_at lw_m8 156 rfl) rfl
theorem q1949 : (Jvm.Cond.methodLink "LastAskedModel" (391 : Nat) ({ cls := "LastAskedModel", name := "low", desc := "(I)I" } : Jvm.MethodName)) ∈ lw_all := lw_g (lw_at lw_m8 157 rfl) rfl
theorem q1950 : (Jvm.Cond.privateMethod ({ cls := "LastAskedModel", name := "low", desc := "(I)I" } : Jvm.MethodName)) ∈ lw_tbl := lw_at lw_m8 158 rfl
theorem q1951 : (Jvm.Cond.instanceMethod ({ cls := "LastAskedModel", name := "low", desc := "(I)I" } : Jvm.MethodName)) ∈ lw_all := lw_g (lw_at lw_m8 159 rfl) rfl
theorem q1952 : (Jvm.Cond.code ({ cls := "LastAskedModel", name := "low", desc := "(I)I" } : Jvm.MethodName) prog_14_method_89_code (3 : Nat) (Option.some Jvm.ClassFile.FieldType.int)) ∈ lw_all := lw_g (lw_at lw_m8 160 rfl) rfl
theorem q1953 : (Jvm.Cond.methodLink "LastAskedModel" (400 : Nat) ({ cls := "LastAskedModel", name := "wrong", desc := "()I" } : Jvm.MethodName)) ∈ lw_all := lw_g (lw_at lw_m8 161 rfl) rfl
theorem q1954 : (Jvm.Cond.privateMethod ({ cls := "LastAskedModel", name := "wrong", desc := "()I" } : Jvm.MethodName)) ∈ lw_tbl := lw_at lw_m8 162 rfl
theorem q1955 : (Jvm.Cond.instanceMethod ({ cls := "LastAskedModel", name := "wrong", desc := "()I" } : Jvm.MethodName)) ∈ lw_all := lw_g (lw_at lw_m8 163 rfl) rfl
theorem q1956 : (Jvm.Cond.code ({ cls := "LastAskedModel", name := "wrong", desc := "()I" } : Jvm.MethodName) prog_14_method_91_code (2 : Nat) (Option.some Jvm.ClassFile.FieldType.int)) ∈ lw_all := lw_g (lw_at lw_m8 164 rfl) rfl
theorem q1958 : (Jvm.Cond.instanceMethod ({ cls := "LastAskedModel", name := "fitAt", desc := "(II)I" } : Jvm.MethodName)) ∈ lw_all := lw_g (lw_at lw_m8 166 rfl) rfl
theorem q1959 : (Jvm.Cond.selects "LastAskedModel" ({ cls := "LastAskedModel", name := "fitAt", desc := "(II)I" } : Jvm.MethodName) ({ cls := "LastAskedModel", name := "fitAt", desc := "(II)I" } : Jvm.MethodName)) ∈ lw_all := lw_g (lw_at lw_m8 167 rfl) rfl
theorem q1960 : (Jvm.Cond.code ({ cls := "LastAskedModel", name := "fitAt", desc := "(II)I" } : Jvm.MethodName) prog_14_method_94_code (3 : Nat) (Option.some Jvm.ClassFile.FieldType.int)) ∈ lw_all := lw_g (lw_at lw_m8 168 rfl) rfl
theorem q1962 : (Jvm.Cond.instanceMethod ({ cls := "LastAskedModel", name := "heirBy", desc := "(II)I" } : Jvm.MethodName)) ∈ lw_all := lw_g (lw_at lw_m8 170 rfl) rfl
theorem q1963 : (Jvm.Cond.selects "LastAskedModel" ({ cls := "LastAskedModel", name := "heirBy", desc := "(II)I" } : Jvm.MethodName) ({ cls := "LastAskedModel", name := "heirBy", desc := "(II)I" } : Jvm.MethodName)) ∈ lw_all := lw_g (lw_at lw_m8 171 rfl) rfl
theorem q1964 : (Jvm.Cond.code ({ cls := "LastAskedModel", name := "heirBy", desc := "(II)I" } : Jvm.MethodName) prog_14_method_95_code (3 : Nat) (Option.some Jvm.ClassFile.FieldType.int)) ∈ lw_all := lw_g (lw_at lw_m8 172 rfl) rfl
theorem q1966 : (Jvm.Cond.instanceMethod ({ cls := "LastAskedModel", name := "look", desc := "()I" } : Jvm.MethodName)) ∈ lw_all := lw_g (lw_at lw_m8 174 rfl) rfl
theorem q1967 : (Jvm.Cond.selects "LastAskedModel" ({ cls := "LastAskedModel", name := "look", desc := "()I" } : Jvm.MethodName) ({ cls := "LastAskedModel", name := "look", desc := "()I" } : Jvm.MethodName)) ∈ lw_all := lw_g (lw_at lw_m8 175 rfl) rfl
theorem q1968 : (Jvm.Cond.code ({ cls := "LastAskedModel", name := "look", desc := "()I" } : Jvm.MethodName) prog_14_method_97_code (1 : Nat) (Option.some Jvm.ClassFile.FieldType.int)) ∈ lw_all := lw_g (lw_at lw_m8 176 rfl) rfl
theorem q1969 : (Jvm.Cond.methodLink "LastAskedModel" (412 : Nat) ({ cls := "LastAskedModel", name := "looks", desc := "()I" } : Jvm.MethodName)) ∈ lw_all := lw_g (lw_at lw_m8 177 rfl) rfl
theorem q1970 : (Jvm.Cond.privateMethod ({ cls := "LastAskedModel", name := "looks", desc := "()I" } : Jvm.MethodName)) ∈ lw_tbl := lw_at lw_m8 178 rfl
theorem q1971 : (Jvm.Cond.instanceMethod ({ cls := "LastAskedModel", name := "looks", desc := "()I" } : Jvm.MethodName)) ∈ lw_all := lw_g (lw_at lw_m8 179 rfl) rfl
theorem q1972 : (Jvm.Cond.code ({ cls := "LastAskedModel", name := "looks", desc := "()I" } : Jvm.MethodName) prog_14_method_96_code (5 : Nat) (Option.some Jvm.ClassFile.FieldType.int)) ∈ lw_all := lw_g (lw_at lw_m8 180 rfl) rfl
theorem q1974 : (Jvm.Cond.instanceMethod ({ cls := "LastAskedModel", name := "lookLeaves", desc := "()I" } : Jvm.MethodName)) ∈ lw_all := lw_g (lw_at lw_m8 182 rfl) rfl
theorem q1975 : (Jvm.Cond.selects "LastAskedModel" ({ cls := "LastAskedModel", name := "lookLeaves", desc := "()I" } : Jvm.MethodName) ({ cls := "LastAskedModel", name := "lookLeaves", desc := "()I" } : Jvm.MethodName)) ∈ lw_all := lw_g (lw_at lw_m8 183 rfl) rfl
theorem q1976 : (Jvm.Cond.code ({ cls := "LastAskedModel", name := "lookLeaves", desc := "()I" } : Jvm.MethodName) prog_14_method_98_code (1 : Nat) (Option.some Jvm.ClassFile.FieldType.int)) ∈ lw_all := lw_g (lw_at lw_m8 184 rfl) rfl
theorem q1978 : (Jvm.Cond.instanceMethod ({ cls := "LastAskedModel", name := "judge", desc := "()I" } : Jvm.MethodName)) ∈ lw_all := lw_g (lw_at lw_m8 186 rfl) rfl
theorem q1979 : (Jvm.Cond.selects "LastAskedModel" ({ cls := "LastAskedModel", name := "judge", desc := "()I" } : Jvm.MethodName) ({ cls := "LastAskedModel", name := "judge", desc := "()I" } : Jvm.MethodName)) ∈ lw_all := lw_g (lw_at lw_m8 187 rfl) rfl
theorem q1980 : (Jvm.Cond.code ({ cls := "LastAskedModel", name := "judge", desc := "()I" } : Jvm.MethodName) prog_14_method_99_code (1 : Nat) (Option.some Jvm.ClassFile.FieldType.int)) ∈ lw_all := lw_g (lw_at lw_m8 188 rfl) rfl
theorem q1982 : (Jvm.Cond.instanceMethod ({ cls := "LastAskedModel", name := "begs", desc := "(IZZZ)I" } : Jvm.MethodName)) ∈ lw_all := lw_g (lw_at lw_m8 190 rfl) rfl
theorem q1983 : (Jvm.Cond.selects "LastAskedModel" ({ cls := "LastAskedModel", name := "begs", desc := "(IZZZ)I" } : Jvm.MethodName) ({ cls := "LastAskedModel", name := "begs", desc := "(IZZZ)I" } : Jvm.MethodName)) ∈ lw_all := lw_g (lw_at lw_m8 191 rfl) rfl
theorem q1984 : (Jvm.Cond.code ({ cls := "LastAskedModel", name := "begs", desc := "(IZZZ)I" } : Jvm.MethodName) prog_14_method_103_code (6 : Nat) (Option.some Jvm.ClassFile.FieldType.int)) ∈ lw_all := lw_g (lw_at lw_m8 192 rfl) rfl
theorem q1985 : (Jvm.Cond.methodLink "LastAskedModel" (415 : Nat) ({ cls := "LastAskedModel", name := "refusesShame", desc := "(I)I" } : Jvm.MethodName)) ∈ lw_all := lw_g (lw_at lw_m8 193 rfl) rfl
theorem q1986 : (Jvm.Cond.privateMethod ({ cls := "LastAskedModel", name := "refusesShame", desc := "(I)I" } : Jvm.MethodName)) ∈ lw_tbl := lw_at lw_m8 194 rfl
theorem q1987 : (Jvm.Cond.instanceMethod ({ cls := "LastAskedModel", name := "refusesShame", desc := "(I)I" } : Jvm.MethodName)) ∈ lw_all := lw_g (lw_at lw_m8 195 rfl) rfl
theorem q1988 : (Jvm.Cond.code ({ cls := "LastAskedModel", name := "refusesShame", desc := "(I)I" } : Jvm.MethodName) prog_14_method_102_code (2 : Nat) (Option.some Jvm.ClassFile.FieldType.int)) ∈ lw_all := lw_g (lw_at lw_m8 196 rfl) rfl
theorem q1989 : (Jvm.Cond.methodLink "LastAskedModel" (418 : Nat) ({ cls := "LastAskedModel", name := "lost", desc := "(I)I" } : Jvm.MethodName)) ∈ lw_all := lw_g (lw_at lw_m8 197 rfl) rfl
theorem q1990 : (Jvm.Cond.privateMethod ({ cls := "LastAskedModel", name := "lost", desc := "(I)I" } : Jvm.MethodName)) ∈ lw_tbl := lw_at lw_m8 198 rfl
theorem q1991 : (Jvm.Cond.instanceMethod ({ cls := "LastAskedModel", name := "lost", desc := "(I)I" } : Jvm.MethodName)) ∈ lw_all := lw_g (lw_at lw_m8 199 rfl) rfl
theorem q1992 : (Jvm.Cond.code ({ cls := "LastAskedModel", name := "lost", desc := "(I)I" } : Jvm.MethodName) prog_14_method_4_code (2 : Nat) (Option.some Jvm.ClassFile.FieldType.int)) ∈ lw_all := lw_g (lw_at lw_m8 200 rfl) rfl
theorem q1993 : (Jvm.Cond.methodLink "LastAskedModel" (421 : Nat) ({ cls := "LastAskedModel", name := "beggar", desc := "(ZZ)I" } : Jvm.MethodName)) ∈ lw_all := lw_g (lw_at lw_m8 201 rfl) rfl
theorem q1994 : (Jvm.Cond.static ({ cls := "LastAskedModel", name := "beggar", desc := "(ZZ)I" } : Jvm.MethodName)) ∈ lw_all := lw_g (lw_at lw_m8 202 rfl) rfl
theorem q1995 : (Jvm.Cond.code ({ cls := "LastAskedModel", name := "beggar", desc := "(ZZ)I" } : Jvm.MethodName) prog_14_method_101_code (2 : Nat) (Option.some Jvm.ClassFile.FieldType.int)) ∈ lw_all := lw_g (lw_at lw_m8 203 rfl) rfl
theorem q1996 : (Jvm.Cond.methodLink "LastAskedModel" (425 : Nat) ({ cls := "LastAskedModel", name := "rich", desc := "(IZZ)I" } : Jvm.MethodName)) ∈ lw_all := lw_g (lw_at lw_m8 204 rfl) rfl
theorem q1997 : (Jvm.Cond.static ({ cls := "LastAskedModel", name := "rich", desc := "(IZZ)I" } : Jvm.MethodName)) ∈ lw_all := lw_g (lw_at lw_m8 205 rfl) rfl
theorem q1998 : (Jvm.Cond.code ({ cls := "LastAskedModel", name := "rich", desc := "(IZZ)I" } : Jvm.MethodName) prog_14_method_100_code (3 : Nat) (Option.some Jvm.ClassFile.FieldType.int)) ∈ lw_all := lw_g (lw_at lw_m8 206 rfl) rfl
theorem q2000 : (Jvm.Cond.instanceMethod ({ cls := "LastAskedModel", name := "rests", desc := "(I)I" } : Jvm.MethodName)) ∈ lw_all := lw_g (lw_at lw_m8 208 rfl) rfl
theorem q2001 : (Jvm.Cond.selects "LastAskedModel" ({ cls := "LastAskedModel", name := "rests", desc := "(I)I" } : Jvm.MethodName) ({ cls := "LastAskedModel", name := "rests", desc := "(I)I" } : Jvm.MethodName)) ∈ lw_all := lw_g (lw_at lw_m8 209 rfl) rfl
theorem q2002 : (Jvm.Cond.code ({ cls := "LastAskedModel", name := "rests", desc := "(I)I" } : Jvm.MethodName) prog_14_method_105_code (5 : Nat) (Option.some Jvm.ClassFile.FieldType.int)) ∈ lw_all := lw_g (lw_at lw_m8 210 rfl) rfl
theorem q2003 : (Jvm.Cond.methodLink "LastAskedModel" (429 : Nat) ({ cls := "LastAskedModel", name := "isRest", desc := "(II)Z" } : Jvm.MethodName)) ∈ lw_all := lw_g (lw_at lw_m8 211 rfl) rfl
theorem q2004 : (Jvm.Cond.static ({ cls := "LastAskedModel", name := "isRest", desc := "(II)Z" } : Jvm.MethodName)) ∈ lw_all := lw_g (lw_at lw_m8 212 rfl) rfl
theorem q2005 : (Jvm.Cond.code ({ cls := "LastAskedModel", name := "isRest", desc := "(II)Z" } : Jvm.MethodName) prog_14_method_104_code (4 : Nat) (Option.some Jvm.ClassFile.FieldType.boolean)) ∈ lw_all := lw_g (lw_at lw_m8 213 rfl) rfl
theorem q2007 : (Jvm.Cond.instanceMethod ({ cls := "LastAskedModel", name := "rest", desc := "(I)I" } : Jvm.MethodName)) ∈ lw_all := lw_g (lw_at lw_m8 215 rfl) rfl
theorem q2008 : (Jvm.Cond.selects "LastAskedModel" ({ cls := "LastAskedModel", name := "rest", desc := "(I)I" } : Jvm.MethodName) ({ cls := "LastAskedModel", name := "rest", desc := "(I)I" } : Jvm.MethodName)) ∈ lw_all := lw_g (lw_at lw_m8 216 rfl) rfl
theorem q2009 : (Jvm.Cond.code ({ cls := "LastAskedModel", name := "rest", desc := "(I)I" } : Jvm.MethodName) prog_14_method_106_code (4 : Nat) (Option.some Jvm.ClassFile.FieldType.int)) ∈ lw_all := lw_g (lw_at lw_m8 217 rfl) rfl
theorem q2011 : (Jvm.Cond.instanceMethod ({ cls := "LastAskedModel", name := "nights", desc := "(III)I" } : Jvm.MethodName)) ∈ lw_all := lw_g (lw_at lw_m8 219 rfl) rfl
theorem q2012 : (Jvm.Cond.selects "LastAskedModel" ({ cls := "LastAskedModel", name := "nights", desc := "(III)I" } : Jvm.MethodName) ({ cls := "LastAskedModel", name := "nights", desc := "(III)I" } : Jvm.MethodName)) ∈ lw_all := lw_g (lw_at lw_m8 220 rfl) rfl
theorem q2013 : (Jvm.Cond.code ({ cls := "LastAskedModel", name := "nights", desc := "(III)I" } : Jvm.MethodName) prog_14_method_110_code (5 : Nat) (Option.some Jvm.ClassFile.FieldType.int)) ∈ lw_all := lw_g (lw_at lw_m8 221 rfl) rfl
theorem q2014 : (Jvm.Cond.methodLink "LastAskedModel" (450 : Nat) ({ cls := "LastAskedModel", name := "refusesSeed", desc := "(ZII)I" } : Jvm.MethodName)) ∈ lw_all := lw_g (lw_at lw_m8 222 rfl) rfl
theorem q2015 : (Jvm.Cond.privateMethod ({ cls := "LastAskedModel", name := "refusesSeed", desc := "(ZII)I" } : Jvm.MethodName)) ∈ lw_tbl := lw_at lw_m8 223 rfl
theorem q2016 : (Jvm.Cond.instanceMethod ({ cls := "LastAskedModel", name := "refusesSeed", desc := "(ZII)I" } : Jvm.MethodName)) ∈ lw_all := lw_g (lw_at lw_m8 224 rfl) rfl
theorem q2017 : (Jvm.Cond.code ({ cls := "LastAskedModel", name := "refusesSeed", desc := "(ZII)I" } : Jvm.MethodName) prog_14_method_109_code (4 : Nat) (Option.some Jvm.ClassFile.FieldType.int)) ∈ lw_all := lw_g (lw_at lw_m8 225 rfl) rfl
theorem q2018 : (Jvm.Cond.constant "LastAskedModel" (449 : Nat) (65536 : Int32)) ∈ lw_all := lw_g (lw_at lw_m8 226 rfl) rfl
theorem q2019 : (Jvm.Cond.methodLink "LastAskedModel" (454 : Nat) ({ cls := "LastAskedModel", name := "nightsAll", desc := "(II)V" } : Jvm.MethodName)) ∈ lw_all := lw_g (lw_at lw_m8 227 rfl) rfl
theorem q2020 : (Jvm.Cond.privateMethod ({ cls := "LastAskedModel", name := "nightsAll", desc := "(II)V" } : Jvm.MethodName)) ∈ lw_tbl := lw_at lw_m8 228 rfl
theorem q2021 : (Jvm.Cond.instanceMethod ({ cls := "LastAskedModel", name := "nightsAll", desc := "(II)V" } : Jvm.MethodName)) ∈ lw_all := lw_g (lw_at lw_m8 229 rfl) rfl
theorem q2022 : (Jvm.Cond.code ({ cls := "LastAskedModel", name := "nightsAll", desc := "(II)V" } : Jvm.MethodName) prog_14_method_108_code (4 : Nat) (Option.none : Option Jvm.ClassFile.FieldType)) ∈ lw_all := lw_g (lw_at lw_m8 230 rfl) rfl
theorem q2023 : (Jvm.Cond.methodLink "LastAskedModel" (445 : Nat) ({ cls := "LastAskedModel", name := "aNight", desc := "(Z)I" } : Jvm.MethodName)) ∈ lw_all := lw_g (lw_at lw_m8 231 rfl) rfl
theorem q2024 : (Jvm.Cond.privateMethod ({ cls := "LastAskedModel", name := "aNight", desc := "(Z)I" } : Jvm.MethodName)) ∈ lw_tbl := lw_at lw_m8 232 rfl
theorem q2025 : (Jvm.Cond.instanceMethod ({ cls := "LastAskedModel", name := "aNight", desc := "(Z)I" } : Jvm.MethodName)) ∈ lw_all := lw_g (lw_at lw_m8 233 rfl) rfl
theorem q2026 : (Jvm.Cond.code ({ cls := "LastAskedModel", name := "aNight", desc := "(Z)I" } : Jvm.MethodName) prog_14_method_107_code (4 : Nat) (Option.some Jvm.ClassFile.FieldType.int)) ∈ lw_all := lw_g (lw_at lw_m8 234 rfl) rfl
theorem q2027 : (Jvm.Cond.constantLong "LastAskedModel" (432 : Nat) (75 : Int64)) ∈ lw_all := lw_g (lw_at lw_m8 235 rfl) rfl
theorem q2028 : (Jvm.Cond.constantLong "LastAskedModel" (434 : Nat) (74 : Int64)) ∈ lw_all := lw_g (lw_at lw_m8 236 rfl) rfl
theorem q2029 : (Jvm.Cond.constantLong "LastAskedModel" (436 : Nat) (65537 : Int64)) ∈ lw_all := lw_g (lw_at lw_m8 237 rfl) rfl
theorem q2030 : (Jvm.Cond.methodLink "LastAskedModel" (438 : Nat) ({ cls := "LastAskedModel", name := "dieAll", desc := "(IZ)V" } : Jvm.MethodName)) ∈ lw_all := lw_g (lw_at lw_m8 238 rfl) rfl
theorem q2031 : (Jvm.Cond.privateMethod ({ cls := "LastAskedModel", name := "dieAll", desc := "(IZ)V" } : Jvm.MethodName)) ∈ lw_tbl := lw_at lw_m8 239 rfl
theorem q2032 : (Jvm.Cond.instanceMethod ({ cls := "LastAskedModel", name := "dieAll", desc := "(IZ)V" } : Jvm.MethodName)) ∈ lw_all := lw_g (lw_at lw_m9 0 rfl) rfl
theorem q2033 : (Jvm.Cond.code ({ cls := "LastAskedModel", name := "dieAll", desc := "(IZ)V" } : Jvm.MethodName) prog_14_method_48_code (4 : Nat) (Option.none : Option Jvm.ClassFile.FieldType)) ∈ lw_all := lw_g (lw_at lw_m9 1 rfl) rfl
theorem q2035 : (Jvm.Cond.instanceMethod ({ cls := "LastAskedModel", name := "lives", desc := "(II)I" } : Jvm.MethodName)) ∈ lw_all := lw_g (lw_at lw_m9 3 rfl) rfl
theorem q2036 : (Jvm.Cond.selects "LastAskedModel" ({ cls := "LastAskedModel", name := "lives", desc := "(II)I" } : Jvm.MethodName) ({ cls := "LastAskedModel", name := "lives", desc := "(II)I" } : Jvm.MethodName)) ∈ lw_all := lw_g (lw_at lw_m9 4 rfl) rfl
theorem q2037 : (Jvm.Cond.code ({ cls := "LastAskedModel", name := "lives", desc := "(II)I" } : Jvm.MethodName) prog_14_method_111_code (4 : Nat) (Option.some Jvm.ClassFile.FieldType.int)) ∈ lw_all := lw_g (lw_at lw_m9 5 rfl) rfl
theorem q2039 : (Jvm.Cond.instanceMethod ({ cls := "LastAskedModel", name := "firstCat", desc := "(II)I" } : Jvm.MethodName)) ∈ lw_all := lw_g (lw_at lw_m9 7 rfl) rfl
theorem q2040 : (Jvm.Cond.selects "LastAskedModel" ({ cls := "LastAskedModel", name := "firstCat", desc := "(II)I" } : Jvm.MethodName) ({ cls := "LastAskedModel", name := "firstCat", desc := "(II)I" } : Jvm.MethodName)) ∈ lw_all := lw_g (lw_at lw_m9 8 rfl) rfl
theorem q2041 : (Jvm.Cond.code ({ cls := "LastAskedModel", name := "firstCat", desc := "(II)I" } : Jvm.MethodName) prog_14_method_112_code (4 : Nat) (Option.some Jvm.ClassFile.FieldType.int)) ∈ lw_all := lw_g (lw_at lw_m9 9 rfl) rfl
theorem q2043 : (Jvm.Cond.instanceMethod ({ cls := "LastAskedModel", name := "ask", desc := "(II)I" } : Jvm.MethodName)) ∈ lw_all := lw_g (lw_at lw_m9 11 rfl) rfl
theorem q2044 : (Jvm.Cond.selects "LastAskedModel" ({ cls := "LastAskedModel", name := "ask", desc := "(II)I" } : Jvm.MethodName) ({ cls := "LastAskedModel", name := "ask", desc := "(II)I" } : Jvm.MethodName)) ∈ lw_all := lw_g (lw_at lw_m9 12 rfl) rfl
theorem q2045 : (Jvm.Cond.code ({ cls := "LastAskedModel", name := "ask", desc := "(II)I" } : Jvm.MethodName) prog_14_method_115_code (4 : Nat) (Option.some Jvm.ClassFile.FieldType.int)) ∈ lw_all := lw_g (lw_at lw_m9 13 rfl) rfl
theorem q2046 : (Jvm.Cond.methodLink "LastAskedModel" (457 : Nat) ({ cls := "LastAskedModel", name := "remembers", desc := "()V" } : Jvm.MethodName)) ∈ lw_all := lw_g (lw_at lw_m9 14 rfl) rfl
theorem q2047 : (Jvm.Cond.privateMethod ({ cls := "LastAskedModel", name := "remembers", desc := "()V" } : Jvm.MethodName)) ∈ lw_tbl := lw_at lw_m9 15 rfl
theorem q2048 : (Jvm.Cond.instanceMethod ({ cls := "LastAskedModel", name := "remembers", desc := "()V" } : Jvm.MethodName)) ∈ lw_all := lw_g (lw_at lw_m9 16 rfl) rfl
theorem q2049 : (Jvm.Cond.code ({ cls := "LastAskedModel", name := "remembers", desc := "()V" } : Jvm.MethodName) prog_14_method_113_code (2 : Nat) (Option.none : Option Jvm.ClassFile.FieldType)) ∈ lw_all := lw_g (lw_at lw_m9 17 rfl) rfl
theorem q2050 : (Jvm.Cond.methodLink "LastAskedModel" (460 : Nat) ({ cls := "LastAskedModel", name := "stays", desc := "()V" } : Jvm.MethodName)) ∈ lw_all := lw_g (lw_at lw_m9 18 rfl) rfl
theorem q2051 : (Jvm.Cond.privateMethod ({ cls := "LastAskedModel", name := "stays", desc := "()V" } : Jvm.MethodName)) ∈ lw_tbl := lw_at lw_m9 19 rfl
theorem q2052 : (Jvm.Cond.instanceMethod ({ cls := "LastAskedModel", name := "stays", desc := "()V" } : Jvm.MethodName)) ∈ lw_all := lw_g (lw_at lw_m9 20 rfl) rfl
theorem q2053 : (Jvm.Cond.code ({ cls := "LastAskedModel", name := "stays", desc := "()V" } : Jvm.MethodName) prog_14_method_114_code (2 : Nat) (Option.none : Option Jvm.ClassFile.FieldType)) ∈ lw_all := lw_g (lw_at lw_m9 21 rfl) rfl
theorem q2055 : (Jvm.Cond.instanceMethod ({ cls := "LastAskedModel", name := "die", desc := "(I)I" } : Jvm.MethodName)) ∈ lw_all := lw_g (lw_at lw_m9 23 rfl) rfl
theorem q2056 : (Jvm.Cond.selects "LastAskedModel" ({ cls := "LastAskedModel", name := "die", desc := "(I)I" } : Jvm.MethodName) ({ cls := "LastAskedModel", name := "die", desc := "(I)I" } : Jvm.MethodName)) ∈ lw_all := lw_g (lw_at lw_m9 24 rfl) rfl
theorem q2057 : (Jvm.Cond.code ({ cls := "LastAskedModel", name := "die", desc := "(I)I" } : Jvm.MethodName) prog_14_method_116_code (4 : Nat) (Option.some Jvm.ClassFile.FieldType.int)) ∈ lw_all := lw_g (lw_at lw_m9 25 rfl) rfl
theorem q2059 : (Jvm.Cond.instanceMethod ({ cls := "LastAskedModel", name := "night", desc := "()I" } : Jvm.MethodName)) ∈ lw_all := lw_g (lw_at lw_m9 27 rfl) rfl
theorem q2060 : (Jvm.Cond.selects "LastAskedModel" ({ cls := "LastAskedModel", name := "night", desc := "()I" } : Jvm.MethodName) ({ cls := "LastAskedModel", name := "night", desc := "()I" } : Jvm.MethodName)) ∈ lw_all := lw_g (lw_at lw_m9 28 rfl) rfl
theorem q2061 : (Jvm.Cond.code ({ cls := "LastAskedModel", name := "night", desc := "()I" } : Jvm.MethodName) prog_14_method_117_code (2 : Nat) (Option.some Jvm.ClassFile.FieldType.int)) ∈ lw_all := lw_g (lw_at lw_m9 29 rfl) rfl
theorem q2063 : (Jvm.Cond.instanceMethod ({ cls := "LastAskedModel", name := "seed", desc := "(I)Z" } : Jvm.MethodName)) ∈ lw_all := lw_g (lw_at lw_m9 31 rfl) rfl
theorem q2064 : (Jvm.Cond.selects "LastAskedModel" ({ cls := "LastAskedModel", name := "seed", desc := "(I)Z" } : Jvm.MethodName) ({ cls := "LastAskedModel", name := "seed", desc := "(I)Z" } : Jvm.MethodName)) ∈ lw_all := lw_g (lw_at lw_m9 32 rfl) rfl
theorem q2065 : (Jvm.Cond.code ({ cls := "LastAskedModel", name := "seed", desc := "(I)Z" } : Jvm.MethodName) prog_14_method_118_code (2 : Nat) (Option.some Jvm.ClassFile.FieldType.boolean)) ∈ lw_all := lw_g (lw_at lw_m9 33 rfl) rfl
theorem q2066 : (Jvm.Cond.methodLink "LastAskedModel" (463 : Nat) ({ cls := "LastAskedModel", name := "denied", desc := "(I)Z" } : Jvm.MethodName)) ∈ lw_all := lw_g (lw_at lw_m9 34 rfl) rfl
theorem q2067 : (Jvm.Cond.privateMethod ({ cls := "LastAskedModel", name := "denied", desc := "(I)Z" } : Jvm.MethodName)) ∈ lw_tbl := lw_at lw_m9 35 rfl
theorem q2068 : (Jvm.Cond.instanceMethod ({ cls := "LastAskedModel", name := "denied", desc := "(I)Z" } : Jvm.MethodName)) ∈ lw_all := lw_g (lw_at lw_m9 36 rfl) rfl
theorem q2069 : (Jvm.Cond.code ({ cls := "LastAskedModel", name := "denied", desc := "(I)Z" } : Jvm.MethodName) prog_14_method_5_code (2 : Nat) (Option.some Jvm.ClassFile.FieldType.boolean)) ∈ lw_all := lw_g (lw_at lw_m9 37 rfl) rfl
theorem q2070 : (Jvm.Cond.methodLink "LastAskedModel" (466 : Nat) ({ cls := "LastAskedModel", name := "granted", desc := "()Z" } : Jvm.MethodName)) ∈ lw_all := lw_g (lw_at lw_m9 38 rfl) rfl
theorem q2071 : (Jvm.Cond.privateMethod ({ cls := "LastAskedModel", name := "granted", desc := "()Z" } : Jvm.MethodName)) ∈ lw_tbl := lw_at lw_m9 39 rfl
theorem q2072 : (Jvm.Cond.instanceMethod ({ cls := "LastAskedModel", name := "granted", desc := "()Z" } : Jvm.MethodName)) ∈ lw_all := lw_g (lw_at lw_m9 40 rfl) rfl
theorem q2073 : (Jvm.Cond.code ({ cls := "LastAskedModel", name := "granted", desc := "()Z" } : Jvm.MethodName) prog_14_method_7_code (1 : Nat) (Option.some Jvm.ClassFile.FieldType.boolean)) ∈ lw_all := lw_g (lw_at lw_m9 41 rfl) rfl
theorem q2075 : (Jvm.Cond.instanceMethod ({ cls := "LastAskedModel", name := "undo", desc := "()Z" } : Jvm.MethodName)) ∈ lw_all := lw_g (lw_at lw_m9 43 rfl) rfl
theorem q2076 : (Jvm.Cond.selects "LastAskedModel" ({ cls := "LastAskedModel", name := "undo", desc := "()Z" } : Jvm.MethodName) ({ cls := "LastAskedModel", name := "undo", desc := "()Z" } : Jvm.MethodName)) ∈ lw_all := lw_g (lw_at lw_m9 44 rfl) rfl
theorem q2077 : (Jvm.Cond.code ({ cls := "LastAskedModel", name := "undo", desc := "()Z" } : Jvm.MethodName) prog_14_method_119_code (2 : Nat) (Option.some Jvm.ClassFile.FieldType.boolean)) ∈ lw_all := lw_g (lw_at lw_m9 45 rfl) rfl
theorem q2079 : (Jvm.Cond.instanceMethod ({ cls := "LastAskedModel", name := "image", desc := "()I" } : Jvm.MethodName)) ∈ lw_all := lw_g (lw_at lw_m9 47 rfl) rfl
theorem q2080 : (Jvm.Cond.selects "LastAskedModel" ({ cls := "LastAskedModel", name := "image", desc := "()I" } : Jvm.MethodName) ({ cls := "LastAskedModel", name := "image", desc := "()I" } : Jvm.MethodName)) ∈ lw_all := lw_g (lw_at lw_m9 48 rfl) rfl
theorem q2081 : (Jvm.Cond.code ({ cls := "LastAskedModel", name := "image", desc := "()I" } : Jvm.MethodName) prog_14_method_120_code (2 : Nat) (Option.some Jvm.ClassFile.FieldType.int)) ∈ lw_all := lw_g (lw_at lw_m9 49 rfl) rfl
theorem q2083 : (Jvm.Cond.instanceMethod ({ cls := "LastAskedModel", name := "back", desc := "(I)Z" } : Jvm.MethodName)) ∈ lw_all := lw_g (lw_at lw_m9 51 rfl) rfl
theorem q2084 : (Jvm.Cond.selects "LastAskedModel" ({ cls := "LastAskedModel", name := "back", desc := "(I)Z" } : Jvm.MethodName) ({ cls := "LastAskedModel", name := "back", desc := "(I)Z" } : Jvm.MethodName)) ∈ lw_all := lw_g (lw_at lw_m9 52 rfl) rfl
theorem q2085 : (Jvm.Cond.code ({ cls := "LastAskedModel", name := "back", desc := "(I)Z" } : Jvm.MethodName) prog_14_method_121_code (3 : Nat) (Option.some Jvm.ClassFile.FieldType.boolean)) ∈ lw_all := lw_g (lw_at lw_m9 53 rfl) rfl
theorem q2087 : (Jvm.Cond.instanceMethod ({ cls := "LastAskedModel", name := "led", desc := "(I)I" } : Jvm.MethodName)) ∈ lw_all := lw_g (lw_at lw_m9 55 rfl) rfl
theorem q2088 : (Jvm.Cond.selects "LastAskedModel" ({ cls := "LastAskedModel", name := "led", desc := "(I)I" } : Jvm.MethodName) ({ cls := "LastAskedModel", name := "led", desc := "(I)I" } : Jvm.MethodName)) ∈ lw_all := lw_g (lw_at lw_m9 56 rfl) rfl
theorem q2089 : (Jvm.Cond.code ({ cls := "LastAskedModel", name := "led", desc := "(I)I" } : Jvm.MethodName) prog_14_method_122_code (4 : Nat) (Option.some Jvm.ClassFile.FieldType.int)) ∈ lw_all := lw_g (lw_at lw_m9 57 rfl) rfl
theorem q2091 : (Jvm.Cond.instanceMethod ({ cls := "LastAskedModel", name := "size", desc := "(I)I" } : Jvm.MethodName)) ∈ lw_all := lw_g (lw_at lw_m9 59 rfl) rfl
theorem q2092 : (Jvm.Cond.selects "LastAskedModel" ({ cls := "LastAskedModel", name := "size", desc := "(I)I" } : Jvm.MethodName) ({ cls := "LastAskedModel", name := "size", desc := "(I)I" } : Jvm.MethodName)) ∈ lw_all := lw_g (lw_at lw_m9 60 rfl) rfl
theorem q2093 : (Jvm.Cond.code ({ cls := "LastAskedModel", name := "size", desc := "(I)I" } : Jvm.MethodName) prog_14_method_123_code (2 : Nat) (Option.some Jvm.ClassFile.FieldType.int)) ∈ lw_all := lw_g (lw_at lw_m9 61 rfl) rfl
theorem q2095 : (Jvm.Cond.instanceMethod ({ cls := "LastAskedModel", name := "trouble", desc := "()I" } : Jvm.MethodName)) ∈ lw_all := lw_g (lw_at lw_m9 63 rfl) rfl
theorem q2096 : (Jvm.Cond.selects "LastAskedModel" ({ cls := "LastAskedModel", name := "trouble", desc := "()I" } : Jvm.MethodName) ({ cls := "LastAskedModel", name := "trouble", desc := "()I" } : Jvm.MethodName)) ∈ lw_all := lw_g (lw_at lw_m9 64 rfl) rfl
theorem q2097 : (Jvm.Cond.code ({ cls := "LastAskedModel", name := "trouble", desc := "()I" } : Jvm.MethodName) prog_14_method_124_code (1 : Nat) (Option.some Jvm.ClassFile.FieldType.int)) ∈ lw_all := lw_g (lw_at lw_m9 65 rfl) rfl
theorem q2106 : (Jvm.Cond.castable "LastAskedModel" "java/lang/Object") ∈ lw_tbl := lw_at lw_m9 74 rfl
theorem in_X7 : ∀ w ∈ wsX70, w ∈ lw_all := lw_in wsX70 [1409, 1411, 1413, 1415, 1417, 1419, 1421, 1423, 1425, 1427, 1429, 1431, 1433, 1435, 1437, 1439, 1441, 1443, 1445, 1447, 1449, 1451, 1453, 1455, 1457, 1459, 1461, 1463, 1465, 1467, 1469, 1471, 1473, 1475, 1477, 1479, 1481] (by decide +kernel) (by decide +kernel)
