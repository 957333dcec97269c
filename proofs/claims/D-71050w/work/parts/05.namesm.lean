/-! HedgehogLotsModel -/
set_option maxRecDepth 100000
def RX7 : String := "HedgehogLotsModel"
def TX7 : u_T := fun k => match k with
  | 0 => ("HedgehogLotsModel", "state", "[I", true)
  | 1 => ("HedgehogLotsModel", "hogMany", "I", false)
  | 2 => ("HedgehogLotsModel", "readPage", "[I", true)
  | 3 => ("HedgehogLotsModel", "readHogs", "I", false)
  | 4 => ("HedgehogLotsModel", "high", "I", false)
  | 5 => ("HedgehogLotsModel", "tape", "[I", true)
  | 6 => ("HedgehogLotsModel", "taped", "I", false)
  | 7 => ("HedgehogLotsModel", "fault", "I", false)
  | 8 => ("HedgehogLotsModel", "broken", "I", false)
  | 9 => ("HedgehogLotsModel", "brokenAt", "I", false)
  | 10 => ("HedgehogLotsModel", "spot", "I", false)
  | 11 => ("HedgehogLotsModel", "here", "I", false)
  | 12 => ("HedgehogLotsModel", "token", "I", false)
  | 13 => ("HedgehogLotsModel", "value", "I", false)
  | 14 => ("HedgehogLotsModel", "cuts", "[I", true)
  | 15 => ("HedgehogLotsModel", "letters", "[I", true)
  | 16 => ("HedgehogLotsModel", "rested", "I", false)
  | 17 => ("HedgehogLotsModel", "ended", "I", false)
  | 18 => ("HedgehogLotsModel", "met", "I", false)
  | 19 => ("HedgehogLotsModel", "isOpen", "Z", false)
  | 20 => ("HedgehogLotsModel", "columns", "[I", true)
  | 21 => ("HedgehogLotsModel", "seen", "[I", true)
  | 22 => ("HedgehogLotsModel", "seenMany", "I", false)
  | 23 => ("HedgehogLotsModel", "restBy", "[I", true)
  | 24 => ("HedgehogLotsModel", "isKept", "[Z", true)
  | 25 => ("HedgehogLotsModel", "lanes", "[I", true)
  | 26 => ("HedgehogLotsModel", "lengths", "[I", true)
  | 27 => ("HedgehogLotsModel", "cells", "[I", true)
  | _ => ("HedgehogLotsModel", "torn", "I", false)
def tyX7 : Nat → FieldType := fun k => match k with
  | 0 => .array .int
  | 1 => .int
  | 2 => .array .int
  | 3 => .int
  | 4 => .int
  | 5 => .array .int
  | 6 => .int
  | 7 => .int
  | 8 => .int
  | 9 => .int
  | 10 => .int
  | 11 => .int
  | 12 => .int
  | 13 => .int
  | 14 => .array .int
  | 15 => .array .int
  | 16 => .int
  | 17 => .int
  | 18 => .int
  | 19 => .boolean
  | 20 => .array .int
  | 21 => .array .int
  | 22 => .int
  | 23 => .array .int
  | 24 => .array .boolean
  | 25 => .array .int
  | 26 => .array .int
  | 27 => .array .int
  | _ => .int
abbrev wsX70 : List Cond := u_ws RX7 TX7 29
set_option maxRecDepth 100000 in
theorem nmX7 : ∀ a, a < 29 → ∀ b, b < 29 → a ≠ b → (TX7 a).2.1 ≠ (TX7 b).2.1 := by decide +kernel
set_option maxRecDepth 100000 in
theorem tyX7_ok : ∀ k, k < 29 → parseFieldDescriptor (TX7 k).2.2.1 = some (tyX7 k) := by decide +kernel
abbrev cX7_init : ByteArray := prog_11_method_1_code
def yX7_init : MethodName := ⟨RX7, "<init>", "()V"⟩
def dkwX7_init_13 : List UInt8 := [7, 188, 10, 181, 0, 41, 42, 17, 0, 160, 188, 10, 181, 0, 44, 177]
abbrev dktX7_init_13 : List UInt8 := dkwX7_init_13 ++ []
def dkwX7_init_12 : List UInt8 := [89, 3, 16, 252, 79, 89, 4, 16, 252, 79, 89, 5, 16, 252, 79, 89, 6, 16, 252, 79, 181, 0, 38, 42]
abbrev dktX7_init_12 : List UInt8 := dkwX7_init_12 ++ dktX7_init_13
def dkwX7_init_11 : List UInt8 := [188, 10, 181, 0, 28, 42, 16, 80, 188, 10, 181, 0, 31, 42, 5, 188, 4, 181, 0, 34, 42, 7, 188, 10]
abbrev dktX7_init_11 : List UInt8 := dkwX7_init_11 ++ dktX7_init_12
def dkwX7_init_10 : List UInt8 := [16, 105, 79, 89, 16, 27, 16, 116, 79, 181, 0, 22, 42, 16, 10, 188, 10, 181, 0, 25, 42, 16, 18]
abbrev dktX7_init_10 : List UInt8 := dkwX7_init_10 ++ dktX7_init_11
def dkwX7_init_9 : List UInt8 := [16, 117, 79, 89, 16, 23, 16, 103, 79, 89, 16, 24, 16, 115, 79, 89, 16, 25, 16, 117, 79, 89, 16, 26]
abbrev dktX7_init_9 : List UInt8 := dkwX7_init_9 ++ dktX7_init_10
def dkwX7_init_8 : List UInt8 := [16, 101, 79, 89, 16, 19, 16, 103, 79, 89, 16, 20, 16, 115, 79, 89, 16, 21, 16, 108, 79, 89, 16, 22]
abbrev dktX7_init_8 : List UInt8 := dkwX7_init_8 ++ dktX7_init_9
def dkwX7_init_7 : List UInt8 := [16, 111, 79, 89, 16, 15, 16, 97, 79, 89, 16, 16, 16, 114, 79, 89, 16, 17, 16, 112, 79, 89, 16, 18]
abbrev dktX7_init_7 : List UInt8 := dkwX7_init_7 ++ dktX7_init_8
def dkwX7_init_6 : List UInt8 := [16, 117, 79, 89, 16, 11, 16, 110, 79, 89, 16, 12, 16, 103, 79, 89, 16, 13, 16, 98, 79, 89, 16, 14]
abbrev dktX7_init_6 : List UInt8 := dkwX7_init_6 ++ dktX7_init_7
def dkwX7_init_5 : List UInt8 := [16, 97, 79, 89, 16, 7, 16, 116, 79, 89, 16, 8, 16, 121, 79, 89, 16, 9, 16, 111, 79, 89, 16, 10]
abbrev dktX7_init_5 : List UInt8 := dkwX7_init_5 ++ dktX7_init_6
def dkwX7_init_4 : List UInt8 := [89, 5, 16, 97, 79, 89, 6, 16, 105, 79, 89, 7, 16, 110, 79, 89, 8, 16, 102, 79, 89, 16, 6]
abbrev dktX7_init_4 : List UInt8 := dkwX7_init_4 ++ dktX7_init_5
def dkwX7_init_3 : List UInt8 := [89, 16, 7, 16, 28, 79, 181, 0, 19, 42, 16, 28, 188, 10, 89, 3, 16, 112, 79, 89, 4, 16, 108, 79]
abbrev dktX7_init_3 : List UInt8 := dkwX7_init_3 ++ dktX7_init_4
def dkwX7_init_2 : List UInt8 := [16, 8, 79, 89, 6, 16, 13, 79, 89, 7, 16, 17, 79, 89, 8, 16, 20, 79, 89, 16, 6, 16, 24, 79]
abbrev dktX7_init_2 : List UInt8 := dkwX7_init_2 ++ dktX7_init_3
def dkwX7_init_1 : List UInt8 := [17, 0, 160, 188, 10, 181, 0, 16, 42, 16, 8, 188, 10, 89, 3, 3, 79, 89, 4, 8, 79, 89, 5]
abbrev dktX7_init_1 : List UInt8 := dkwX7_init_1 ++ dktX7_init_2
def dkwX7_init_0 : List UInt8 := [42, 183, 0, 1, 42, 17, 0, 205, 188, 10, 181, 0, 7, 42, 16, 41, 188, 10, 181, 0, 13, 42]
abbrev dktX7_init_0 : List UInt8 := dkwX7_init_0 ++ dktX7_init_1
theorem dksX7_init_0 : cX7_init.data.toList.drop 0 = dktX7_init_0 := by decide +kernel
theorem dksX7_init_1 : cX7_init.data.toList.drop 22 = dktX7_init_1 := dk_seg dksX7_init_0 22 rfl rfl
theorem dksX7_init_2 : cX7_init.data.toList.drop 45 = dktX7_init_2 := dk_seg dksX7_init_1 23 rfl rfl
theorem dksX7_init_3 : cX7_init.data.toList.drop 69 = dktX7_init_3 := dk_seg dksX7_init_2 24 rfl rfl
theorem dksX7_init_4 : cX7_init.data.toList.drop 93 = dktX7_init_4 := dk_seg dksX7_init_3 24 rfl rfl
theorem dksX7_init_5 : cX7_init.data.toList.drop 116 = dktX7_init_5 := dk_seg dksX7_init_4 23 rfl rfl
theorem dksX7_init_6 : cX7_init.data.toList.drop 140 = dktX7_init_6 := dk_seg dksX7_init_5 24 rfl rfl
theorem dksX7_init_7 : cX7_init.data.toList.drop 164 = dktX7_init_7 := dk_seg dksX7_init_6 24 rfl rfl
theorem dksX7_init_8 : cX7_init.data.toList.drop 188 = dktX7_init_8 := dk_seg dksX7_init_7 24 rfl rfl
theorem dksX7_init_9 : cX7_init.data.toList.drop 212 = dktX7_init_9 := dk_seg dksX7_init_8 24 rfl rfl
theorem dksX7_init_10 : cX7_init.data.toList.drop 236 = dktX7_init_10 := dk_seg dksX7_init_9 24 rfl rfl
theorem dksX7_init_11 : cX7_init.data.toList.drop 259 = dktX7_init_11 := dk_seg dksX7_init_10 23 rfl rfl
theorem dksX7_init_12 : cX7_init.data.toList.drop 283 = dktX7_init_12 := dk_seg dksX7_init_11 24 rfl rfl
theorem dksX7_init_13 : cX7_init.data.toList.drop 307 = dktX7_init_13 := dk_seg dksX7_init_12 24 rfl rfl
theorem dX7_init_0 : decode cX7_init 0 = .ok (.aload_n 0, 1) := dk_42 (dk_at dksX7_init_0 0 rfl rfl)
theorem dX7_init_1 : decode cX7_init 1 = .ok (.invokespecial 1, 3) := dk_183 0 1 (dk_at dksX7_init_0 1 rfl rfl)
theorem dX7_init_4 : decode cX7_init 4 = .ok (.aload_n 0, 1) := dk_42 (dk_at dksX7_init_0 4 rfl rfl)
theorem dX7_init_5 : decode cX7_init 5 = .ok (.sipush 205, 3) := dk_17 0 205 (dk_at dksX7_init_0 5 rfl rfl)
theorem dX7_init_8 : decode cX7_init 8 = .ok (.newarray .int, 2) := dk_188_10 (dk_at dksX7_init_0 8 rfl rfl)
theorem dX7_init_10 : decode cX7_init 10 = .ok (.putfield 7, 3) := dk_181 0 7 (dk_at dksX7_init_0 10 rfl rfl)
theorem dX7_init_13 : decode cX7_init 13 = .ok (.aload_n 0, 1) := dk_42 (dk_at dksX7_init_0 13 rfl rfl)
theorem dX7_init_14 : decode cX7_init 14 = .ok (.bipush 41, 2) := dk_16 41 (dk_at dksX7_init_0 14 rfl rfl)
theorem dX7_init_16 : decode cX7_init 16 = .ok (.newarray .int, 2) := dk_188_10 (dk_at dksX7_init_0 16 rfl rfl)
theorem dX7_init_18 : decode cX7_init 18 = .ok (.putfield 13, 3) := dk_181 0 13 (dk_at dksX7_init_0 18 rfl rfl)
theorem dX7_init_21 : decode cX7_init 21 = .ok (.aload_n 0, 1) := dk_42 (dk_at dksX7_init_0 21 rfl rfl)
theorem dX7_init_22 : decode cX7_init 22 = .ok (.sipush 160, 3) := dk_17 0 160 (dk_at dksX7_init_1 0 rfl rfl)
theorem dX7_init_25 : decode cX7_init 25 = .ok (.newarray .int, 2) := dk_188_10 (dk_at dksX7_init_1 3 rfl rfl)
theorem dX7_init_27 : decode cX7_init 27 = .ok (.putfield 16, 3) := dk_181 0 16 (dk_at dksX7_init_1 5 rfl rfl)
theorem dX7_init_30 : decode cX7_init 30 = .ok (.aload_n 0, 1) := dk_42 (dk_at dksX7_init_1 8 rfl rfl)
theorem dX7_init_31 : decode cX7_init 31 = .ok (.bipush 8, 2) := dk_16 8 (dk_at dksX7_init_1 9 rfl rfl)
theorem dX7_init_33 : decode cX7_init 33 = .ok (.newarray .int, 2) := dk_188_10 (dk_at dksX7_init_1 11 rfl rfl)
theorem dX7_init_35 : decode cX7_init 35 = .ok (.dup, 1) := dk_89 (dk_at dksX7_init_1 13 rfl rfl)
theorem dX7_init_36 : decode cX7_init 36 = .ok (.iconst 0, 1) := dk_3 (dk_at dksX7_init_1 14 rfl rfl)
theorem dX7_init_37 : decode cX7_init 37 = .ok (.iconst 0, 1) := dk_3 (dk_at dksX7_init_1 15 rfl rfl)
theorem dX7_init_38 : decode cX7_init 38 = .ok (.iastore, 1) := dk_79 (dk_at dksX7_init_1 16 rfl rfl)
theorem dX7_init_39 : decode cX7_init 39 = .ok (.dup, 1) := dk_89 (dk_at dksX7_init_1 17 rfl rfl)
theorem dX7_init_40 : decode cX7_init 40 = .ok (.iconst 1, 1) := dk_4 (dk_at dksX7_init_1 18 rfl rfl)
theorem dX7_init_41 : decode cX7_init 41 = .ok (.iconst 5, 1) := dk_8 (dk_at dksX7_init_1 19 rfl rfl)
theorem dX7_init_42 : decode cX7_init 42 = .ok (.iastore, 1) := dk_79 (dk_at dksX7_init_1 20 rfl rfl)
theorem dX7_init_43 : decode cX7_init 43 = .ok (.dup, 1) := dk_89 (dk_at dksX7_init_1 21 rfl rfl)
theorem dX7_init_44 : decode cX7_init 44 = .ok (.iconst 2, 1) := dk_5 (dk_at dksX7_init_1 22 rfl rfl)
theorem dX7_init_45 : decode cX7_init 45 = .ok (.bipush 8, 2) := dk_16 8 (dk_at dksX7_init_2 0 rfl rfl)
theorem dX7_init_47 : decode cX7_init 47 = .ok (.iastore, 1) := dk_79 (dk_at dksX7_init_2 2 rfl rfl)
theorem dX7_init_48 : decode cX7_init 48 = .ok (.dup, 1) := dk_89 (dk_at dksX7_init_2 3 rfl rfl)
theorem dX7_init_49 : decode cX7_init 49 = .ok (.iconst 3, 1) := dk_6 (dk_at dksX7_init_2 4 rfl rfl)
theorem dX7_init_50 : decode cX7_init 50 = .ok (.bipush 13, 2) := dk_16 13 (dk_at dksX7_init_2 5 rfl rfl)
theorem dX7_init_52 : decode cX7_init 52 = .ok (.iastore, 1) := dk_79 (dk_at dksX7_init_2 7 rfl rfl)
theorem dX7_init_53 : decode cX7_init 53 = .ok (.dup, 1) := dk_89 (dk_at dksX7_init_2 8 rfl rfl)
theorem dX7_init_54 : decode cX7_init 54 = .ok (.iconst 4, 1) := dk_7 (dk_at dksX7_init_2 9 rfl rfl)
theorem dX7_init_55 : decode cX7_init 55 = .ok (.bipush 17, 2) := dk_16 17 (dk_at dksX7_init_2 10 rfl rfl)
theorem dX7_init_57 : decode cX7_init 57 = .ok (.iastore, 1) := dk_79 (dk_at dksX7_init_2 12 rfl rfl)
theorem dX7_init_58 : decode cX7_init 58 = .ok (.dup, 1) := dk_89 (dk_at dksX7_init_2 13 rfl rfl)
theorem dX7_init_59 : decode cX7_init 59 = .ok (.iconst 5, 1) := dk_8 (dk_at dksX7_init_2 14 rfl rfl)
theorem dX7_init_60 : decode cX7_init 60 = .ok (.bipush 20, 2) := dk_16 20 (dk_at dksX7_init_2 15 rfl rfl)
theorem dX7_init_62 : decode cX7_init 62 = .ok (.iastore, 1) := dk_79 (dk_at dksX7_init_2 17 rfl rfl)
theorem dX7_init_63 : decode cX7_init 63 = .ok (.dup, 1) := dk_89 (dk_at dksX7_init_2 18 rfl rfl)
theorem dX7_init_64 : decode cX7_init 64 = .ok (.bipush 6, 2) := dk_16 6 (dk_at dksX7_init_2 19 rfl rfl)
theorem dX7_init_66 : decode cX7_init 66 = .ok (.bipush 24, 2) := dk_16 24 (dk_at dksX7_init_2 21 rfl rfl)
theorem dX7_init_68 : decode cX7_init 68 = .ok (.iastore, 1) := dk_79 (dk_at dksX7_init_2 23 rfl rfl)
theorem dX7_init_69 : decode cX7_init 69 = .ok (.dup, 1) := dk_89 (dk_at dksX7_init_3 0 rfl rfl)
theorem dX7_init_70 : decode cX7_init 70 = .ok (.bipush 7, 2) := dk_16 7 (dk_at dksX7_init_3 1 rfl rfl)
theorem dX7_init_72 : decode cX7_init 72 = .ok (.bipush 28, 2) := dk_16 28 (dk_at dksX7_init_3 3 rfl rfl)
theorem dX7_init_74 : decode cX7_init 74 = .ok (.iastore, 1) := dk_79 (dk_at dksX7_init_3 5 rfl rfl)
theorem dX7_init_75 : decode cX7_init 75 = .ok (.putfield 19, 3) := dk_181 0 19 (dk_at dksX7_init_3 6 rfl rfl)
theorem dX7_init_78 : decode cX7_init 78 = .ok (.aload_n 0, 1) := dk_42 (dk_at dksX7_init_3 9 rfl rfl)
theorem dX7_init_79 : decode cX7_init 79 = .ok (.bipush 28, 2) := dk_16 28 (dk_at dksX7_init_3 10 rfl rfl)
theorem dX7_init_81 : decode cX7_init 81 = .ok (.newarray .int, 2) := dk_188_10 (dk_at dksX7_init_3 12 rfl rfl)
theorem dX7_init_83 : decode cX7_init 83 = .ok (.dup, 1) := dk_89 (dk_at dksX7_init_3 14 rfl rfl)
theorem dX7_init_84 : decode cX7_init 84 = .ok (.iconst 0, 1) := dk_3 (dk_at dksX7_init_3 15 rfl rfl)
theorem dX7_init_85 : decode cX7_init 85 = .ok (.bipush 112, 2) := dk_16 112 (dk_at dksX7_init_3 16 rfl rfl)
theorem dX7_init_87 : decode cX7_init 87 = .ok (.iastore, 1) := dk_79 (dk_at dksX7_init_3 18 rfl rfl)
theorem dX7_init_88 : decode cX7_init 88 = .ok (.dup, 1) := dk_89 (dk_at dksX7_init_3 19 rfl rfl)
theorem dX7_init_89 : decode cX7_init 89 = .ok (.iconst 1, 1) := dk_4 (dk_at dksX7_init_3 20 rfl rfl)
theorem dX7_init_90 : decode cX7_init 90 = .ok (.bipush 108, 2) := dk_16 108 (dk_at dksX7_init_3 21 rfl rfl)
theorem dX7_init_92 : decode cX7_init 92 = .ok (.iastore, 1) := dk_79 (dk_at dksX7_init_3 23 rfl rfl)
theorem dX7_init_93 : decode cX7_init 93 = .ok (.dup, 1) := dk_89 (dk_at dksX7_init_4 0 rfl rfl)
theorem dX7_init_94 : decode cX7_init 94 = .ok (.iconst 2, 1) := dk_5 (dk_at dksX7_init_4 1 rfl rfl)
theorem dX7_init_95 : decode cX7_init 95 = .ok (.bipush 97, 2) := dk_16 97 (dk_at dksX7_init_4 2 rfl rfl)
theorem dX7_init_97 : decode cX7_init 97 = .ok (.iastore, 1) := dk_79 (dk_at dksX7_init_4 4 rfl rfl)
theorem dX7_init_98 : decode cX7_init 98 = .ok (.dup, 1) := dk_89 (dk_at dksX7_init_4 5 rfl rfl)
theorem dX7_init_99 : decode cX7_init 99 = .ok (.iconst 3, 1) := dk_6 (dk_at dksX7_init_4 6 rfl rfl)
theorem dX7_init_100 : decode cX7_init 100 = .ok (.bipush 105, 2) := dk_16 105 (dk_at dksX7_init_4 7 rfl rfl)
theorem dX7_init_102 : decode cX7_init 102 = .ok (.iastore, 1) := dk_79 (dk_at dksX7_init_4 9 rfl rfl)
theorem dX7_init_103 : decode cX7_init 103 = .ok (.dup, 1) := dk_89 (dk_at dksX7_init_4 10 rfl rfl)
theorem dX7_init_104 : decode cX7_init 104 = .ok (.iconst 4, 1) := dk_7 (dk_at dksX7_init_4 11 rfl rfl)
theorem dX7_init_105 : decode cX7_init 105 = .ok (.bipush 110, 2) := dk_16 110 (dk_at dksX7_init_4 12 rfl rfl)
theorem dX7_init_107 : decode cX7_init 107 = .ok (.iastore, 1) := dk_79 (dk_at dksX7_init_4 14 rfl rfl)
theorem dX7_init_108 : decode cX7_init 108 = .ok (.dup, 1) := dk_89 (dk_at dksX7_init_4 15 rfl rfl)
theorem dX7_init_109 : decode cX7_init 109 = .ok (.iconst 5, 1) := dk_8 (dk_at dksX7_init_4 16 rfl rfl)
theorem dX7_init_110 : decode cX7_init 110 = .ok (.bipush 102, 2) := dk_16 102 (dk_at dksX7_init_4 17 rfl rfl)
theorem dX7_init_112 : decode cX7_init 112 = .ok (.iastore, 1) := dk_79 (dk_at dksX7_init_4 19 rfl rfl)
theorem dX7_init_113 : decode cX7_init 113 = .ok (.dup, 1) := dk_89 (dk_at dksX7_init_4 20 rfl rfl)
theorem dX7_init_114 : decode cX7_init 114 = .ok (.bipush 6, 2) := dk_16 6 (dk_at dksX7_init_4 21 rfl rfl)
theorem dX7_init_116 : decode cX7_init 116 = .ok (.bipush 97, 2) := dk_16 97 (dk_at dksX7_init_5 0 rfl rfl)
theorem dX7_init_118 : decode cX7_init 118 = .ok (.iastore, 1) := dk_79 (dk_at dksX7_init_5 2 rfl rfl)
theorem dX7_init_119 : decode cX7_init 119 = .ok (.dup, 1) := dk_89 (dk_at dksX7_init_5 3 rfl rfl)
theorem dX7_init_120 : decode cX7_init 120 = .ok (.bipush 7, 2) := dk_16 7 (dk_at dksX7_init_5 4 rfl rfl)
theorem dX7_init_122 : decode cX7_init 122 = .ok (.bipush 116, 2) := dk_16 116 (dk_at dksX7_init_5 6 rfl rfl)
theorem dX7_init_124 : decode cX7_init 124 = .ok (.iastore, 1) := dk_79 (dk_at dksX7_init_5 8 rfl rfl)
theorem dX7_init_125 : decode cX7_init 125 = .ok (.dup, 1) := dk_89 (dk_at dksX7_init_5 9 rfl rfl)
theorem dX7_init_126 : decode cX7_init 126 = .ok (.bipush 8, 2) := dk_16 8 (dk_at dksX7_init_5 10 rfl rfl)
theorem dX7_init_128 : decode cX7_init 128 = .ok (.bipush 121, 2) := dk_16 121 (dk_at dksX7_init_5 12 rfl rfl)
theorem dX7_init_130 : decode cX7_init 130 = .ok (.iastore, 1) := dk_79 (dk_at dksX7_init_5 14 rfl rfl)
theorem dX7_init_131 : decode cX7_init 131 = .ok (.dup, 1) := dk_89 (dk_at dksX7_init_5 15 rfl rfl)
theorem dX7_init_132 : decode cX7_init 132 = .ok (.bipush 9, 2) := dk_16 9 (dk_at dksX7_init_5 16 rfl rfl)
theorem dX7_init_134 : decode cX7_init 134 = .ok (.bipush 111, 2) := dk_16 111 (dk_at dksX7_init_5 18 rfl rfl)
theorem dX7_init_136 : decode cX7_init 136 = .ok (.iastore, 1) := dk_79 (dk_at dksX7_init_5 20 rfl rfl)
theorem dX7_init_137 : decode cX7_init 137 = .ok (.dup, 1) := dk_89 (dk_at dksX7_init_5 21 rfl rfl)
theorem dX7_init_138 : decode cX7_init 138 = .ok (.bipush 10, 2) := dk_16 10 (dk_at dksX7_init_5 22 rfl rfl)
theorem dX7_init_140 : decode cX7_init 140 = .ok (.bipush 117, 2) := dk_16 117 (dk_at dksX7_init_6 0 rfl rfl)
theorem dX7_init_142 : decode cX7_init 142 = .ok (.iastore, 1) := dk_79 (dk_at dksX7_init_6 2 rfl rfl)
theorem dX7_init_143 : decode cX7_init 143 = .ok (.dup, 1) := dk_89 (dk_at dksX7_init_6 3 rfl rfl)
theorem dX7_init_144 : decode cX7_init 144 = .ok (.bipush 11, 2) := dk_16 11 (dk_at dksX7_init_6 4 rfl rfl)
theorem dX7_init_146 : decode cX7_init 146 = .ok (.bipush 110, 2) := dk_16 110 (dk_at dksX7_init_6 6 rfl rfl)
theorem dX7_init_148 : decode cX7_init 148 = .ok (.iastore, 1) := dk_79 (dk_at dksX7_init_6 8 rfl rfl)
theorem dX7_init_149 : decode cX7_init 149 = .ok (.dup, 1) := dk_89 (dk_at dksX7_init_6 9 rfl rfl)
theorem dX7_init_150 : decode cX7_init 150 = .ok (.bipush 12, 2) := dk_16 12 (dk_at dksX7_init_6 10 rfl rfl)
theorem dX7_init_152 : decode cX7_init 152 = .ok (.bipush 103, 2) := dk_16 103 (dk_at dksX7_init_6 12 rfl rfl)
theorem dX7_init_154 : decode cX7_init 154 = .ok (.iastore, 1) := dk_79 (dk_at dksX7_init_6 14 rfl rfl)
theorem dX7_init_155 : decode cX7_init 155 = .ok (.dup, 1) := dk_89 (dk_at dksX7_init_6 15 rfl rfl)
theorem dX7_init_156 : decode cX7_init 156 = .ok (.bipush 13, 2) := dk_16 13 (dk_at dksX7_init_6 16 rfl rfl)
theorem dX7_init_158 : decode cX7_init 158 = .ok (.bipush 98, 2) := dk_16 98 (dk_at dksX7_init_6 18 rfl rfl)
theorem dX7_init_160 : decode cX7_init 160 = .ok (.iastore, 1) := dk_79 (dk_at dksX7_init_6 20 rfl rfl)
theorem dX7_init_161 : decode cX7_init 161 = .ok (.dup, 1) := dk_89 (dk_at dksX7_init_6 21 rfl rfl)
theorem dX7_init_162 : decode cX7_init 162 = .ok (.bipush 14, 2) := dk_16 14 (dk_at dksX7_init_6 22 rfl rfl)
theorem dX7_init_164 : decode cX7_init 164 = .ok (.bipush 111, 2) := dk_16 111 (dk_at dksX7_init_7 0 rfl rfl)
theorem dX7_init_166 : decode cX7_init 166 = .ok (.iastore, 1) := dk_79 (dk_at dksX7_init_7 2 rfl rfl)
theorem dX7_init_167 : decode cX7_init 167 = .ok (.dup, 1) := dk_89 (dk_at dksX7_init_7 3 rfl rfl)
theorem dX7_init_168 : decode cX7_init 168 = .ok (.bipush 15, 2) := dk_16 15 (dk_at dksX7_init_7 4 rfl rfl)
theorem dX7_init_170 : decode cX7_init 170 = .ok (.bipush 97, 2) := dk_16 97 (dk_at dksX7_init_7 6 rfl rfl)
theorem dX7_init_172 : decode cX7_init 172 = .ok (.iastore, 1) := dk_79 (dk_at dksX7_init_7 8 rfl rfl)
theorem dX7_init_173 : decode cX7_init 173 = .ok (.dup, 1) := dk_89 (dk_at dksX7_init_7 9 rfl rfl)
theorem dX7_init_174 : decode cX7_init 174 = .ok (.bipush 16, 2) := dk_16 16 (dk_at dksX7_init_7 10 rfl rfl)
theorem dX7_init_176 : decode cX7_init 176 = .ok (.bipush 114, 2) := dk_16 114 (dk_at dksX7_init_7 12 rfl rfl)
theorem dX7_init_178 : decode cX7_init 178 = .ok (.iastore, 1) := dk_79 (dk_at dksX7_init_7 14 rfl rfl)
theorem dX7_init_179 : decode cX7_init 179 = .ok (.dup, 1) := dk_89 (dk_at dksX7_init_7 15 rfl rfl)
theorem dX7_init_180 : decode cX7_init 180 = .ok (.bipush 17, 2) := dk_16 17 (dk_at dksX7_init_7 16 rfl rfl)
theorem dX7_init_182 : decode cX7_init 182 = .ok (.bipush 112, 2) := dk_16 112 (dk_at dksX7_init_7 18 rfl rfl)
theorem dX7_init_184 : decode cX7_init 184 = .ok (.iastore, 1) := dk_79 (dk_at dksX7_init_7 20 rfl rfl)
theorem dX7_init_185 : decode cX7_init 185 = .ok (.dup, 1) := dk_89 (dk_at dksX7_init_7 21 rfl rfl)
theorem dX7_init_186 : decode cX7_init 186 = .ok (.bipush 18, 2) := dk_16 18 (dk_at dksX7_init_7 22 rfl rfl)
theorem dX7_init_188 : decode cX7_init 188 = .ok (.bipush 101, 2) := dk_16 101 (dk_at dksX7_init_8 0 rfl rfl)
theorem dX7_init_190 : decode cX7_init 190 = .ok (.iastore, 1) := dk_79 (dk_at dksX7_init_8 2 rfl rfl)
theorem dX7_init_191 : decode cX7_init 191 = .ok (.dup, 1) := dk_89 (dk_at dksX7_init_8 3 rfl rfl)
theorem dX7_init_192 : decode cX7_init 192 = .ok (.bipush 19, 2) := dk_16 19 (dk_at dksX7_init_8 4 rfl rfl)
theorem dX7_init_194 : decode cX7_init 194 = .ok (.bipush 103, 2) := dk_16 103 (dk_at dksX7_init_8 6 rfl rfl)
theorem dX7_init_196 : decode cX7_init 196 = .ok (.iastore, 1) := dk_79 (dk_at dksX7_init_8 8 rfl rfl)
theorem dX7_init_197 : decode cX7_init 197 = .ok (.dup, 1) := dk_89 (dk_at dksX7_init_8 9 rfl rfl)
theorem dX7_init_198 : decode cX7_init 198 = .ok (.bipush 20, 2) := dk_16 20 (dk_at dksX7_init_8 10 rfl rfl)
theorem dX7_init_200 : decode cX7_init 200 = .ok (.bipush 115, 2) := dk_16 115 (dk_at dksX7_init_8 12 rfl rfl)
theorem dX7_init_202 : decode cX7_init 202 = .ok (.iastore, 1) := dk_79 (dk_at dksX7_init_8 14 rfl rfl)
theorem dX7_init_203 : decode cX7_init 203 = .ok (.dup, 1) := dk_89 (dk_at dksX7_init_8 15 rfl rfl)
theorem dX7_init_204 : decode cX7_init 204 = .ok (.bipush 21, 2) := dk_16 21 (dk_at dksX7_init_8 16 rfl rfl)
theorem dX7_init_206 : decode cX7_init 206 = .ok (.bipush 108, 2) := dk_16 108 (dk_at dksX7_init_8 18 rfl rfl)
theorem dX7_init_208 : decode cX7_init 208 = .ok (.iastore, 1) := dk_79 (dk_at dksX7_init_8 20 rfl rfl)
theorem dX7_init_209 : decode cX7_init 209 = .ok (.dup, 1) := dk_89 (dk_at dksX7_init_8 21 rfl rfl)
theorem dX7_init_210 : decode cX7_init 210 = .ok (.bipush 22, 2) := dk_16 22 (dk_at dksX7_init_8 22 rfl rfl)
theorem dX7_init_212 : decode cX7_init 212 = .ok (.bipush 117, 2) := dk_16 117 (dk_at dksX7_init_9 0 rfl rfl)
theorem dX7_init_214 : decode cX7_init 214 = .ok (.iastore, 1) := dk_79 (dk_at dksX7_init_9 2 rfl rfl)
theorem dX7_init_215 : decode cX7_init 215 = .ok (.dup, 1) := dk_89 (dk_at dksX7_init_9 3 rfl rfl)
theorem dX7_init_216 : decode cX7_init 216 = .ok (.bipush 23, 2) := dk_16 23 (dk_at dksX7_init_9 4 rfl rfl)
theorem dX7_init_218 : decode cX7_init 218 = .ok (.bipush 103, 2) := dk_16 103 (dk_at dksX7_init_9 6 rfl rfl)
theorem dX7_init_220 : decode cX7_init 220 = .ok (.iastore, 1) := dk_79 (dk_at dksX7_init_9 8 rfl rfl)
theorem dX7_init_221 : decode cX7_init 221 = .ok (.dup, 1) := dk_89 (dk_at dksX7_init_9 9 rfl rfl)
theorem dX7_init_222 : decode cX7_init 222 = .ok (.bipush 24, 2) := dk_16 24 (dk_at dksX7_init_9 10 rfl rfl)
theorem dX7_init_224 : decode cX7_init 224 = .ok (.bipush 115, 2) := dk_16 115 (dk_at dksX7_init_9 12 rfl rfl)
theorem dX7_init_226 : decode cX7_init 226 = .ok (.iastore, 1) := dk_79 (dk_at dksX7_init_9 14 rfl rfl)
theorem dX7_init_227 : decode cX7_init 227 = .ok (.dup, 1) := dk_89 (dk_at dksX7_init_9 15 rfl rfl)
theorem dX7_init_228 : decode cX7_init 228 = .ok (.bipush 25, 2) := dk_16 25 (dk_at dksX7_init_9 16 rfl rfl)
theorem dX7_init_230 : decode cX7_init 230 = .ok (.bipush 117, 2) := dk_16 117 (dk_at dksX7_init_9 18 rfl rfl)
theorem dX7_init_232 : decode cX7_init 232 = .ok (.iastore, 1) := dk_79 (dk_at dksX7_init_9 20 rfl rfl)
theorem dX7_init_233 : decode cX7_init 233 = .ok (.dup, 1) := dk_89 (dk_at dksX7_init_9 21 rfl rfl)
theorem dX7_init_234 : decode cX7_init 234 = .ok (.bipush 26, 2) := dk_16 26 (dk_at dksX7_init_9 22 rfl rfl)
theorem dX7_init_236 : decode cX7_init 236 = .ok (.bipush 105, 2) := dk_16 105 (dk_at dksX7_init_10 0 rfl rfl)
theorem dX7_init_238 : decode cX7_init 238 = .ok (.iastore, 1) := dk_79 (dk_at dksX7_init_10 2 rfl rfl)
theorem dX7_init_239 : decode cX7_init 239 = .ok (.dup, 1) := dk_89 (dk_at dksX7_init_10 3 rfl rfl)
theorem dX7_init_240 : decode cX7_init 240 = .ok (.bipush 27, 2) := dk_16 27 (dk_at dksX7_init_10 4 rfl rfl)
theorem dX7_init_242 : decode cX7_init 242 = .ok (.bipush 116, 2) := dk_16 116 (dk_at dksX7_init_10 6 rfl rfl)
theorem dX7_init_244 : decode cX7_init 244 = .ok (.iastore, 1) := dk_79 (dk_at dksX7_init_10 8 rfl rfl)
theorem dX7_init_245 : decode cX7_init 245 = .ok (.putfield 22, 3) := dk_181 0 22 (dk_at dksX7_init_10 9 rfl rfl)
theorem dX7_init_248 : decode cX7_init 248 = .ok (.aload_n 0, 1) := dk_42 (dk_at dksX7_init_10 12 rfl rfl)
theorem dX7_init_249 : decode cX7_init 249 = .ok (.bipush 10, 2) := dk_16 10 (dk_at dksX7_init_10 13 rfl rfl)
theorem dX7_init_251 : decode cX7_init 251 = .ok (.newarray .int, 2) := dk_188_10 (dk_at dksX7_init_10 15 rfl rfl)
theorem dX7_init_253 : decode cX7_init 253 = .ok (.putfield 25, 3) := dk_181 0 25 (dk_at dksX7_init_10 17 rfl rfl)
theorem dX7_init_256 : decode cX7_init 256 = .ok (.aload_n 0, 1) := dk_42 (dk_at dksX7_init_10 20 rfl rfl)
theorem dX7_init_257 : decode cX7_init 257 = .ok (.bipush 18, 2) := dk_16 18 (dk_at dksX7_init_10 21 rfl rfl)
theorem dX7_init_259 : decode cX7_init 259 = .ok (.newarray .int, 2) := dk_188_10 (dk_at dksX7_init_11 0 rfl rfl)
theorem dX7_init_261 : decode cX7_init 261 = .ok (.putfield 28, 3) := dk_181 0 28 (dk_at dksX7_init_11 2 rfl rfl)
theorem dX7_init_264 : decode cX7_init 264 = .ok (.aload_n 0, 1) := dk_42 (dk_at dksX7_init_11 5 rfl rfl)
theorem dX7_init_265 : decode cX7_init 265 = .ok (.bipush 80, 2) := dk_16 80 (dk_at dksX7_init_11 6 rfl rfl)
theorem dX7_init_267 : decode cX7_init 267 = .ok (.newarray .int, 2) := dk_188_10 (dk_at dksX7_init_11 8 rfl rfl)
theorem dX7_init_269 : decode cX7_init 269 = .ok (.putfield 31, 3) := dk_181 0 31 (dk_at dksX7_init_11 10 rfl rfl)
theorem dX7_init_272 : decode cX7_init 272 = .ok (.aload_n 0, 1) := dk_42 (dk_at dksX7_init_11 13 rfl rfl)
theorem dX7_init_273 : decode cX7_init 273 = .ok (.iconst 2, 1) := dk_5 (dk_at dksX7_init_11 14 rfl rfl)
theorem dX7_init_274 : decode cX7_init 274 = .ok (.newarray .boolean, 2) := dk_188_4 (dk_at dksX7_init_11 15 rfl rfl)
theorem dX7_init_276 : decode cX7_init 276 = .ok (.putfield 34, 3) := dk_181 0 34 (dk_at dksX7_init_11 17 rfl rfl)
theorem dX7_init_279 : decode cX7_init 279 = .ok (.aload_n 0, 1) := dk_42 (dk_at dksX7_init_11 20 rfl rfl)
theorem dX7_init_280 : decode cX7_init 280 = .ok (.iconst 4, 1) := dk_7 (dk_at dksX7_init_11 21 rfl rfl)
theorem dX7_init_281 : decode cX7_init 281 = .ok (.newarray .int, 2) := dk_188_10 (dk_at dksX7_init_11 22 rfl rfl)
theorem dX7_init_283 : decode cX7_init 283 = .ok (.dup, 1) := dk_89 (dk_at dksX7_init_12 0 rfl rfl)
theorem dX7_init_284 : decode cX7_init 284 = .ok (.iconst 0, 1) := dk_3 (dk_at dksX7_init_12 1 rfl rfl)
theorem dX7_init_285 : decode cX7_init 285 = .ok (.bipush (-4), 2) := dk_16 252 (dk_at dksX7_init_12 2 rfl rfl)
theorem dX7_init_287 : decode cX7_init 287 = .ok (.iastore, 1) := dk_79 (dk_at dksX7_init_12 4 rfl rfl)
theorem dX7_init_288 : decode cX7_init 288 = .ok (.dup, 1) := dk_89 (dk_at dksX7_init_12 5 rfl rfl)
theorem dX7_init_289 : decode cX7_init 289 = .ok (.iconst 1, 1) := dk_4 (dk_at dksX7_init_12 6 rfl rfl)
theorem dX7_init_290 : decode cX7_init 290 = .ok (.bipush (-4), 2) := dk_16 252 (dk_at dksX7_init_12 7 rfl rfl)
theorem dX7_init_292 : decode cX7_init 292 = .ok (.iastore, 1) := dk_79 (dk_at dksX7_init_12 9 rfl rfl)
theorem dX7_init_293 : decode cX7_init 293 = .ok (.dup, 1) := dk_89 (dk_at dksX7_init_12 10 rfl rfl)
theorem dX7_init_294 : decode cX7_init 294 = .ok (.iconst 2, 1) := dk_5 (dk_at dksX7_init_12 11 rfl rfl)
theorem dX7_init_295 : decode cX7_init 295 = .ok (.bipush (-4), 2) := dk_16 252 (dk_at dksX7_init_12 12 rfl rfl)
theorem dX7_init_297 : decode cX7_init 297 = .ok (.iastore, 1) := dk_79 (dk_at dksX7_init_12 14 rfl rfl)
theorem dX7_init_298 : decode cX7_init 298 = .ok (.dup, 1) := dk_89 (dk_at dksX7_init_12 15 rfl rfl)
theorem dX7_init_299 : decode cX7_init 299 = .ok (.iconst 3, 1) := dk_6 (dk_at dksX7_init_12 16 rfl rfl)
theorem dX7_init_300 : decode cX7_init 300 = .ok (.bipush (-4), 2) := dk_16 252 (dk_at dksX7_init_12 17 rfl rfl)
theorem dX7_init_302 : decode cX7_init 302 = .ok (.iastore, 1) := dk_79 (dk_at dksX7_init_12 19 rfl rfl)
theorem dX7_init_303 : decode cX7_init 303 = .ok (.putfield 38, 3) := dk_181 0 38 (dk_at dksX7_init_12 20 rfl rfl)
theorem dX7_init_306 : decode cX7_init 306 = .ok (.aload_n 0, 1) := dk_42 (dk_at dksX7_init_12 23 rfl rfl)
theorem dX7_init_307 : decode cX7_init 307 = .ok (.iconst 4, 1) := dk_7 (dk_at dksX7_init_13 0 rfl rfl)
theorem dX7_init_308 : decode cX7_init 308 = .ok (.newarray .int, 2) := dk_188_10 (dk_at dksX7_init_13 1 rfl rfl)
theorem dX7_init_310 : decode cX7_init 310 = .ok (.putfield 41, 3) := dk_181 0 41 (dk_at dksX7_init_13 3 rfl rfl)
theorem dX7_init_313 : decode cX7_init 313 = .ok (.aload_n 0, 1) := dk_42 (dk_at dksX7_init_13 6 rfl rfl)
theorem dX7_init_314 : decode cX7_init 314 = .ok (.sipush 160, 3) := dk_17 0 160 (dk_at dksX7_init_13 7 rfl rfl)
theorem dX7_init_317 : decode cX7_init 317 = .ok (.newarray .int, 2) := dk_188_10 (dk_at dksX7_init_13 10 rfl rfl)
theorem dX7_init_319 : decode cX7_init 319 = .ok (.putfield 44, 3) := dk_181 0 44 (dk_at dksX7_init_13 12 rfl rfl)
theorem dX7_init_322 : decode cX7_init 322 = .ok (.return_, 1) := dk_177 (dk_at dksX7_init_13 15 rfl rfl)
abbrev cX7_feed : ByteArray := prog_11_method_4_code
def yX7_feed : MethodName := ⟨RX7, "feed", "(I)I"⟩
def dkwX7_feed_2 : List UInt8 := [180, 0, 53, 172]
abbrev dktX7_feed_2 : List UInt8 := dkwX7_feed_2 ++ []
def dkwX7_feed_1 : List UInt8 := [16, 253, 172, 42, 180, 0, 16, 42, 180, 0, 53, 27, 79, 42, 89, 180, 0, 53, 4, 96, 181, 0, 53, 42]
abbrev dktX7_feed_1 : List UInt8 := dkwX7_feed_1 ++ dktX7_feed_2
def dkwX7_feed_0 : List UInt8 := [27, 133, 9, 20, 0, 47, 184, 0, 49, 154, 0, 5, 2, 172, 42, 180, 0, 53, 17, 0, 160, 160, 0, 6]
abbrev dktX7_feed_0 : List UInt8 := dkwX7_feed_0 ++ dktX7_feed_1
theorem dksX7_feed_0 : cX7_feed.data.toList.drop 0 = dktX7_feed_0 := by decide +kernel
theorem dksX7_feed_1 : cX7_feed.data.toList.drop 24 = dktX7_feed_1 := dk_seg dksX7_feed_0 24 rfl rfl
theorem dksX7_feed_2 : cX7_feed.data.toList.drop 48 = dktX7_feed_2 := dk_seg dksX7_feed_1 24 rfl rfl
theorem dX7_feed_0 : decode cX7_feed 0 = .ok (.iload_n 1, 1) := dk_27 (dk_at dksX7_feed_0 0 rfl rfl)
theorem dX7_feed_1 : decode cX7_feed 1 = .ok (.i2l, 1) := dk_133 (dk_at dksX7_feed_0 1 rfl rfl)
theorem dX7_feed_2 : decode cX7_feed 2 = .ok (.lconst 0, 1) := dk_9 (dk_at dksX7_feed_0 2 rfl rfl)
theorem dX7_feed_3 : decode cX7_feed 3 = .ok (.ldc2_w 47, 3) := dk_20 0 47 (dk_at dksX7_feed_0 3 rfl rfl)
theorem dX7_feed_6 : decode cX7_feed 6 = .ok (.invokestatic 49, 3) := dk_184 0 49 (dk_at dksX7_feed_0 6 rfl rfl)
theorem dX7_feed_9 : decode cX7_feed 9 = .ok (.ifCond .ne 5, 3) := dk_154 0 5 (dk_at dksX7_feed_0 9 rfl rfl)
theorem dX7_feed_12 : decode cX7_feed 12 = .ok (.iconst (-1), 1) := dk_2 (dk_at dksX7_feed_0 12 rfl rfl)
theorem dX7_feed_13 : decode cX7_feed 13 = .ok (.ireturn, 1) := dk_172 (dk_at dksX7_feed_0 13 rfl rfl)
theorem dX7_feed_14 : decode cX7_feed 14 = .ok (.aload_n 0, 1) := dk_42 (dk_at dksX7_feed_0 14 rfl rfl)
theorem dX7_feed_15 : decode cX7_feed 15 = .ok (.getfield 53, 3) := dk_180 0 53 (dk_at dksX7_feed_0 15 rfl rfl)
theorem dX7_feed_18 : decode cX7_feed 18 = .ok (.sipush 160, 3) := dk_17 0 160 (dk_at dksX7_feed_0 18 rfl rfl)
theorem dX7_feed_21 : decode cX7_feed 21 = .ok (.if_icmp .ne 6, 3) := dk_160 0 6 (dk_at dksX7_feed_0 21 rfl rfl)
theorem dX7_feed_24 : decode cX7_feed 24 = .ok (.bipush (-3), 2) := dk_16 253 (dk_at dksX7_feed_1 0 rfl rfl)
theorem dX7_feed_26 : decode cX7_feed 26 = .ok (.ireturn, 1) := dk_172 (dk_at dksX7_feed_1 2 rfl rfl)
theorem dX7_feed_27 : decode cX7_feed 27 = .ok (.aload_n 0, 1) := dk_42 (dk_at dksX7_feed_1 3 rfl rfl)
theorem dX7_feed_28 : decode cX7_feed 28 = .ok (.getfield 16, 3) := dk_180 0 16 (dk_at dksX7_feed_1 4 rfl rfl)
theorem dX7_feed_31 : decode cX7_feed 31 = .ok (.aload_n 0, 1) := dk_42 (dk_at dksX7_feed_1 7 rfl rfl)
theorem dX7_feed_32 : decode cX7_feed 32 = .ok (.getfield 53, 3) := dk_180 0 53 (dk_at dksX7_feed_1 8 rfl rfl)
theorem dX7_feed_35 : decode cX7_feed 35 = .ok (.iload_n 1, 1) := dk_27 (dk_at dksX7_feed_1 11 rfl rfl)
theorem dX7_feed_36 : decode cX7_feed 36 = .ok (.iastore, 1) := dk_79 (dk_at dksX7_feed_1 12 rfl rfl)
theorem dX7_feed_37 : decode cX7_feed 37 = .ok (.aload_n 0, 1) := dk_42 (dk_at dksX7_feed_1 13 rfl rfl)
theorem dX7_feed_38 : decode cX7_feed 38 = .ok (.dup, 1) := dk_89 (dk_at dksX7_feed_1 14 rfl rfl)
theorem dX7_feed_39 : decode cX7_feed 39 = .ok (.getfield 53, 3) := dk_180 0 53 (dk_at dksX7_feed_1 15 rfl rfl)
theorem dX7_feed_42 : decode cX7_feed 42 = .ok (.iconst 1, 1) := dk_4 (dk_at dksX7_feed_1 18 rfl rfl)
theorem dX7_feed_43 : decode cX7_feed 43 = .ok (.iadd, 1) := dk_96 (dk_at dksX7_feed_1 19 rfl rfl)
theorem dX7_feed_44 : decode cX7_feed 44 = .ok (.putfield 53, 3) := dk_181 0 53 (dk_at dksX7_feed_1 20 rfl rfl)
theorem dX7_feed_47 : decode cX7_feed 47 = .ok (.aload_n 0, 1) := dk_42 (dk_at dksX7_feed_1 23 rfl rfl)
theorem dX7_feed_48 : decode cX7_feed 48 = .ok (.getfield 53, 3) := dk_180 0 53 (dk_at dksX7_feed_2 0 rfl rfl)
theorem dX7_feed_51 : decode cX7_feed 51 = .ok (.ireturn, 1) := dk_172 (dk_at dksX7_feed_2 3 rfl rfl)
abbrev cX7_in : ByteArray := prog_11_method_3_code
def yX7_in : MethodName := ⟨RX7, "in", "(JJJ)Z"⟩
def dkwX7_in_0 : List UInt8 := [30, 32, 148, 155, 0, 14, 30, 22, 4, 148, 157, 0, 7, 4, 167, 0, 4, 3, 172]
abbrev dktX7_in_0 : List UInt8 := dkwX7_in_0 ++ []
theorem dksX7_in_0 : cX7_in.data.toList.drop 0 = dktX7_in_0 := by decide +kernel
theorem dX7_in_0 : decode cX7_in 0 = .ok (.lload_n 0, 1) := dk_30 (dk_at dksX7_in_0 0 rfl rfl)
theorem dX7_in_1 : decode cX7_in 1 = .ok (.lload_n 2, 1) := dk_32 (dk_at dksX7_in_0 1 rfl rfl)
theorem dX7_in_2 : decode cX7_in 2 = .ok (.lcmp, 1) := dk_148 (dk_at dksX7_in_0 2 rfl rfl)
theorem dX7_in_3 : decode cX7_in 3 = .ok (.ifCond .lt 14, 3) := dk_155 0 14 (dk_at dksX7_in_0 3 rfl rfl)
theorem dX7_in_6 : decode cX7_in 6 = .ok (.lload_n 0, 1) := dk_30 (dk_at dksX7_in_0 6 rfl rfl)
theorem dX7_in_7 : decode cX7_in 7 = .ok (.lload 4, 2) := dk_22 4 (dk_at dksX7_in_0 7 rfl rfl)
theorem dX7_in_9 : decode cX7_in 9 = .ok (.lcmp, 1) := dk_148 (dk_at dksX7_in_0 9 rfl rfl)
theorem dX7_in_10 : decode cX7_in 10 = .ok (.ifCond .gt 7, 3) := dk_157 0 7 (dk_at dksX7_in_0 10 rfl rfl)
theorem dX7_in_13 : decode cX7_in 13 = .ok (.iconst 1, 1) := dk_4 (dk_at dksX7_in_0 13 rfl rfl)
theorem dX7_in_14 : decode cX7_in 14 = .ok (.goto 4, 3) := dk_167 0 4 (dk_at dksX7_in_0 14 rfl rfl)
theorem dX7_in_17 : decode cX7_in 17 = .ok (.iconst 0, 1) := dk_3 (dk_at dksX7_in_0 17 rfl rfl)
theorem dX7_in_18 : decode cX7_in 18 = .ok (.ireturn, 1) := dk_172 (dk_at dksX7_in_0 18 rfl rfl)
abbrev cX7_end : ByteArray := prog_11_method_5_code
def yX7_end : MethodName := ⟨RX7, "end", "(I)I"⟩
def dkwX7_end_1 : List UInt8 := [181, 0, 53, 28, 172]
abbrev dktX7_end_1 : List UInt8 := dkwX7_end_1 ++ []
def dkwX7_end_0 : List UInt8 := [27, 133, 9, 42, 180, 0, 53, 133, 184, 0, 49, 154, 0, 5, 2, 172, 42, 180, 0, 53, 61, 42, 27]
abbrev dktX7_end_0 : List UInt8 := dkwX7_end_0 ++ dktX7_end_1
theorem dksX7_end_0 : cX7_end.data.toList.drop 0 = dktX7_end_0 := by decide +kernel
theorem dksX7_end_1 : cX7_end.data.toList.drop 23 = dktX7_end_1 := dk_seg dksX7_end_0 23 rfl rfl
theorem dX7_end_0 : decode cX7_end 0 = .ok (.iload_n 1, 1) := dk_27 (dk_at dksX7_end_0 0 rfl rfl)
theorem dX7_end_1 : decode cX7_end 1 = .ok (.i2l, 1) := dk_133 (dk_at dksX7_end_0 1 rfl rfl)
theorem dX7_end_2 : decode cX7_end 2 = .ok (.lconst 0, 1) := dk_9 (dk_at dksX7_end_0 2 rfl rfl)
theorem dX7_end_3 : decode cX7_end 3 = .ok (.aload_n 0, 1) := dk_42 (dk_at dksX7_end_0 3 rfl rfl)
theorem dX7_end_4 : decode cX7_end 4 = .ok (.getfield 53, 3) := dk_180 0 53 (dk_at dksX7_end_0 4 rfl rfl)
theorem dX7_end_7 : decode cX7_end 7 = .ok (.i2l, 1) := dk_133 (dk_at dksX7_end_0 7 rfl rfl)
theorem dX7_end_8 : decode cX7_end 8 = .ok (.invokestatic 49, 3) := dk_184 0 49 (dk_at dksX7_end_0 8 rfl rfl)
theorem dX7_end_11 : decode cX7_end 11 = .ok (.ifCond .ne 5, 3) := dk_154 0 5 (dk_at dksX7_end_0 11 rfl rfl)
theorem dX7_end_14 : decode cX7_end 14 = .ok (.iconst (-1), 1) := dk_2 (dk_at dksX7_end_0 14 rfl rfl)
theorem dX7_end_15 : decode cX7_end 15 = .ok (.ireturn, 1) := dk_172 (dk_at dksX7_end_0 15 rfl rfl)
theorem dX7_end_16 : decode cX7_end 16 = .ok (.aload_n 0, 1) := dk_42 (dk_at dksX7_end_0 16 rfl rfl)
theorem dX7_end_17 : decode cX7_end 17 = .ok (.getfield 53, 3) := dk_180 0 53 (dk_at dksX7_end_0 17 rfl rfl)
theorem dX7_end_20 : decode cX7_end 20 = .ok (.istore_n 2, 1) := dk_61 (dk_at dksX7_end_0 20 rfl rfl)
theorem dX7_end_21 : decode cX7_end 21 = .ok (.aload_n 0, 1) := dk_42 (dk_at dksX7_end_0 21 rfl rfl)
theorem dX7_end_22 : decode cX7_end 22 = .ok (.iload_n 1, 1) := dk_27 (dk_at dksX7_end_0 22 rfl rfl)
theorem dX7_end_23 : decode cX7_end 23 = .ok (.putfield 53, 3) := dk_181 0 53 (dk_at dksX7_end_1 0 rfl rfl)
theorem dX7_end_26 : decode cX7_end 26 = .ok (.iload_n 2, 1) := dk_28 (dk_at dksX7_end_1 3 rfl rfl)
theorem dX7_end_27 : decode cX7_end 27 = .ok (.ireturn, 1) := dk_172 (dk_at dksX7_end_1 4 rfl rfl)
abbrev cX7_text : ByteArray := prog_11_method_16_code
def yX7_text : MethodName := ⟨RX7, "text", "()I"⟩
def dkwX7_text_7 : List UInt8 := [3, 3, 84, 42, 180, 0, 34, 4, 3, 84, 27, 172]
abbrev dktX7_text_7 : List UInt8 := dkwX7_text_7 ++ []
def dkwX7_text_6 : List UInt8 := [79, 132, 2, 1, 167, 255, 235, 42, 42, 180, 0, 102, 181, 0, 129, 42, 3, 181, 0, 132, 42, 180, 0, 34]
abbrev dktX7_text_6 : List UInt8 := dkwX7_text_6 ++ dktX7_text_7
def dkwX7_text_5 : List UInt8 := [180, 0, 63, 100, 172, 3, 61, 28, 16, 41, 162, 0, 21, 42, 180, 0, 7, 28, 42, 180, 0, 13, 28, 46]
abbrev dktX7_text_5 : List UInt8 := dkwX7_text_5 ++ dktX7_text_6
def dkwX7_text_4 : List UInt8 := [3, 181, 0, 53, 42, 42, 180, 0, 57, 181, 0, 126, 42, 180, 0, 57, 158, 0, 11, 16, 246, 42]
abbrev dktX7_text_4 : List UInt8 := dkwX7_text_4 ++ dktX7_text_5
def dkwX7_text_3 : List UInt8 := [180, 0, 57, 154, 0, 20, 42, 180, 0, 109, 42, 180, 0, 102, 161, 0, 9, 42, 16, 6, 182, 0, 87, 42]
abbrev dktX7_text_3 : List UInt8 := dkwX7_text_3 ++ dktX7_text_4
def dkwX7_text_2 : List UInt8 := [180, 0, 57, 154, 0, 20, 42, 180, 0, 66, 153, 0, 13, 42, 182, 0, 123, 132, 1, 1, 167, 255, 235, 42]
abbrev dktX7_text_2 : List UInt8 := dkwX7_text_2 ++ dktX7_text_3
def dkwX7_text_1 : List UInt8 := [28, 16, 41, 162, 0, 16, 42, 180, 0, 13, 28, 3, 79, 132, 2, 1, 167, 255, 240, 42, 182, 0, 91, 42]
abbrev dktX7_text_1 : List UInt8 := dkwX7_text_1 ++ dktX7_text_2
def dkwX7_text_0 : List UInt8 := [42, 3, 181, 0, 57, 42, 3, 181, 0, 69, 42, 3, 181, 0, 102, 42, 2, 181, 0, 109, 3, 60, 3, 61]
abbrev dktX7_text_0 : List UInt8 := dkwX7_text_0 ++ dktX7_text_1
theorem dksX7_text_0 : cX7_text.data.toList.drop 0 = dktX7_text_0 := by decide +kernel
theorem dksX7_text_1 : cX7_text.data.toList.drop 24 = dktX7_text_1 := dk_seg dksX7_text_0 24 rfl rfl
theorem dksX7_text_2 : cX7_text.data.toList.drop 48 = dktX7_text_2 := dk_seg dksX7_text_1 24 rfl rfl
theorem dksX7_text_3 : cX7_text.data.toList.drop 72 = dktX7_text_3 := dk_seg dksX7_text_2 24 rfl rfl
theorem dksX7_text_4 : cX7_text.data.toList.drop 96 = dktX7_text_4 := dk_seg dksX7_text_3 24 rfl rfl
theorem dksX7_text_5 : cX7_text.data.toList.drop 118 = dktX7_text_5 := dk_seg dksX7_text_4 22 rfl rfl
theorem dksX7_text_6 : cX7_text.data.toList.drop 142 = dktX7_text_6 := dk_seg dksX7_text_5 24 rfl rfl
theorem dksX7_text_7 : cX7_text.data.toList.drop 166 = dktX7_text_7 := dk_seg dksX7_text_6 24 rfl rfl
theorem dX7_text_0 : decode cX7_text 0 = .ok (.aload_n 0, 1) := dk_42 (dk_at dksX7_text_0 0 rfl rfl)
theorem dX7_text_1 : decode cX7_text 1 = .ok (.iconst 0, 1) := dk_3 (dk_at dksX7_text_0 1 rfl rfl)
theorem dX7_text_2 : decode cX7_text 2 = .ok (.putfield 57, 3) := dk_181 0 57 (dk_at dksX7_text_0 2 rfl rfl)
theorem dX7_text_5 : decode cX7_text 5 = .ok (.aload_n 0, 1) := dk_42 (dk_at dksX7_text_0 5 rfl rfl)
theorem dX7_text_6 : decode cX7_text 6 = .ok (.iconst 0, 1) := dk_3 (dk_at dksX7_text_0 6 rfl rfl)
theorem dX7_text_7 : decode cX7_text 7 = .ok (.putfield 69, 3) := dk_181 0 69 (dk_at dksX7_text_0 7 rfl rfl)
theorem dX7_text_10 : decode cX7_text 10 = .ok (.aload_n 0, 1) := dk_42 (dk_at dksX7_text_0 10 rfl rfl)
theorem dX7_text_11 : decode cX7_text 11 = .ok (.iconst 0, 1) := dk_3 (dk_at dksX7_text_0 11 rfl rfl)
theorem dX7_text_12 : decode cX7_text 12 = .ok (.putfield 102, 3) := dk_181 0 102 (dk_at dksX7_text_0 12 rfl rfl)
theorem dX7_text_15 : decode cX7_text 15 = .ok (.aload_n 0, 1) := dk_42 (dk_at dksX7_text_0 15 rfl rfl)
theorem dX7_text_16 : decode cX7_text 16 = .ok (.iconst (-1), 1) := dk_2 (dk_at dksX7_text_0 16 rfl rfl)
theorem dX7_text_17 : decode cX7_text 17 = .ok (.putfield 109, 3) := dk_181 0 109 (dk_at dksX7_text_0 17 rfl rfl)
theorem dX7_text_20 : decode cX7_text 20 = .ok (.iconst 0, 1) := dk_3 (dk_at dksX7_text_0 20 rfl rfl)
theorem dX7_text_21 : decode cX7_text 21 = .ok (.istore_n 1, 1) := dk_60 (dk_at dksX7_text_0 21 rfl rfl)
theorem dX7_text_22 : decode cX7_text 22 = .ok (.iconst 0, 1) := dk_3 (dk_at dksX7_text_0 22 rfl rfl)
theorem dX7_text_23 : decode cX7_text 23 = .ok (.istore_n 2, 1) := dk_61 (dk_at dksX7_text_0 23 rfl rfl)
theorem dX7_text_24 : decode cX7_text 24 = .ok (.iload_n 2, 1) := dk_28 (dk_at dksX7_text_1 0 rfl rfl)
theorem dX7_text_25 : decode cX7_text 25 = .ok (.bipush 41, 2) := dk_16 41 (dk_at dksX7_text_1 1 rfl rfl)
theorem dX7_text_27 : decode cX7_text 27 = .ok (.if_icmp .ge 16, 3) := dk_162 0 16 (dk_at dksX7_text_1 3 rfl rfl)
theorem dX7_text_30 : decode cX7_text 30 = .ok (.aload_n 0, 1) := dk_42 (dk_at dksX7_text_1 6 rfl rfl)
theorem dX7_text_31 : decode cX7_text 31 = .ok (.getfield 13, 3) := dk_180 0 13 (dk_at dksX7_text_1 7 rfl rfl)
theorem dX7_text_34 : decode cX7_text 34 = .ok (.iload_n 2, 1) := dk_28 (dk_at dksX7_text_1 10 rfl rfl)
theorem dX7_text_35 : decode cX7_text 35 = .ok (.iconst 0, 1) := dk_3 (dk_at dksX7_text_1 11 rfl rfl)
theorem dX7_text_36 : decode cX7_text 36 = .ok (.iastore, 1) := dk_79 (dk_at dksX7_text_1 12 rfl rfl)
theorem dX7_text_37 : decode cX7_text 37 = .ok (.iinc 2 1, 3) := dk_132 2 1 (dk_at dksX7_text_1 13 rfl rfl)
theorem dX7_text_40 : decode cX7_text 40 = .ok (.goto (-16), 3) := dk_167 255 240 (dk_at dksX7_text_1 16 rfl rfl)
theorem dX7_text_43 : decode cX7_text 43 = .ok (.aload_n 0, 1) := dk_42 (dk_at dksX7_text_1 19 rfl rfl)
theorem dX7_text_44 : decode cX7_text 44 = .ok (.invokevirtual 91, 3) := dk_182 0 91 (dk_at dksX7_text_1 20 rfl rfl)
theorem dX7_text_47 : decode cX7_text 47 = .ok (.aload_n 0, 1) := dk_42 (dk_at dksX7_text_1 23 rfl rfl)
theorem dX7_text_48 : decode cX7_text 48 = .ok (.getfield 57, 3) := dk_180 0 57 (dk_at dksX7_text_2 0 rfl rfl)
theorem dX7_text_51 : decode cX7_text 51 = .ok (.ifCond .ne 20, 3) := dk_154 0 20 (dk_at dksX7_text_2 3 rfl rfl)
theorem dX7_text_54 : decode cX7_text 54 = .ok (.aload_n 0, 1) := dk_42 (dk_at dksX7_text_2 6 rfl rfl)
theorem dX7_text_55 : decode cX7_text 55 = .ok (.getfield 66, 3) := dk_180 0 66 (dk_at dksX7_text_2 7 rfl rfl)
theorem dX7_text_58 : decode cX7_text 58 = .ok (.ifCond .eq 13, 3) := dk_153 0 13 (dk_at dksX7_text_2 10 rfl rfl)
theorem dX7_text_61 : decode cX7_text 61 = .ok (.aload_n 0, 1) := dk_42 (dk_at dksX7_text_2 13 rfl rfl)
theorem dX7_text_62 : decode cX7_text 62 = .ok (.invokevirtual 123, 3) := dk_182 0 123 (dk_at dksX7_text_2 14 rfl rfl)
theorem dX7_text_65 : decode cX7_text 65 = .ok (.iinc 1 1, 3) := dk_132 1 1 (dk_at dksX7_text_2 17 rfl rfl)
theorem dX7_text_68 : decode cX7_text 68 = .ok (.goto (-21), 3) := dk_167 255 235 (dk_at dksX7_text_2 20 rfl rfl)
theorem dX7_text_71 : decode cX7_text 71 = .ok (.aload_n 0, 1) := dk_42 (dk_at dksX7_text_2 23 rfl rfl)
theorem dX7_text_72 : decode cX7_text 72 = .ok (.getfield 57, 3) := dk_180 0 57 (dk_at dksX7_text_3 0 rfl rfl)
theorem dX7_text_75 : decode cX7_text 75 = .ok (.ifCond .ne 20, 3) := dk_154 0 20 (dk_at dksX7_text_3 3 rfl rfl)
theorem dX7_text_78 : decode cX7_text 78 = .ok (.aload_n 0, 1) := dk_42 (dk_at dksX7_text_3 6 rfl rfl)
theorem dX7_text_79 : decode cX7_text 79 = .ok (.getfield 109, 3) := dk_180 0 109 (dk_at dksX7_text_3 7 rfl rfl)
theorem dX7_text_82 : decode cX7_text 82 = .ok (.aload_n 0, 1) := dk_42 (dk_at dksX7_text_3 10 rfl rfl)
theorem dX7_text_83 : decode cX7_text 83 = .ok (.getfield 102, 3) := dk_180 0 102 (dk_at dksX7_text_3 11 rfl rfl)
theorem dX7_text_86 : decode cX7_text 86 = .ok (.if_icmp .lt 9, 3) := dk_161 0 9 (dk_at dksX7_text_3 14 rfl rfl)
theorem dX7_text_89 : decode cX7_text 89 = .ok (.aload_n 0, 1) := dk_42 (dk_at dksX7_text_3 17 rfl rfl)
theorem dX7_text_90 : decode cX7_text 90 = .ok (.bipush 6, 2) := dk_16 6 (dk_at dksX7_text_3 18 rfl rfl)
theorem dX7_text_92 : decode cX7_text 92 = .ok (.invokevirtual 87, 3) := dk_182 0 87 (dk_at dksX7_text_3 20 rfl rfl)
theorem dX7_text_95 : decode cX7_text 95 = .ok (.aload_n 0, 1) := dk_42 (dk_at dksX7_text_3 23 rfl rfl)
theorem dX7_text_96 : decode cX7_text 96 = .ok (.iconst 0, 1) := dk_3 (dk_at dksX7_text_4 0 rfl rfl)
theorem dX7_text_97 : decode cX7_text 97 = .ok (.putfield 53, 3) := dk_181 0 53 (dk_at dksX7_text_4 1 rfl rfl)
theorem dX7_text_100 : decode cX7_text 100 = .ok (.aload_n 0, 1) := dk_42 (dk_at dksX7_text_4 4 rfl rfl)
theorem dX7_text_101 : decode cX7_text 101 = .ok (.aload_n 0, 1) := dk_42 (dk_at dksX7_text_4 5 rfl rfl)
theorem dX7_text_102 : decode cX7_text 102 = .ok (.getfield 57, 3) := dk_180 0 57 (dk_at dksX7_text_4 6 rfl rfl)
theorem dX7_text_105 : decode cX7_text 105 = .ok (.putfield 126, 3) := dk_181 0 126 (dk_at dksX7_text_4 9 rfl rfl)
theorem dX7_text_108 : decode cX7_text 108 = .ok (.aload_n 0, 1) := dk_42 (dk_at dksX7_text_4 12 rfl rfl)
theorem dX7_text_109 : decode cX7_text 109 = .ok (.getfield 57, 3) := dk_180 0 57 (dk_at dksX7_text_4 13 rfl rfl)
theorem dX7_text_112 : decode cX7_text 112 = .ok (.ifCond .le 11, 3) := dk_158 0 11 (dk_at dksX7_text_4 16 rfl rfl)
theorem dX7_text_115 : decode cX7_text 115 = .ok (.bipush (-10), 2) := dk_16 246 (dk_at dksX7_text_4 19 rfl rfl)
theorem dX7_text_117 : decode cX7_text 117 = .ok (.aload_n 0, 1) := dk_42 (dk_at dksX7_text_4 21 rfl rfl)
theorem dX7_text_118 : decode cX7_text 118 = .ok (.getfield 63, 3) := dk_180 0 63 (dk_at dksX7_text_5 0 rfl rfl)
theorem dX7_text_121 : decode cX7_text 121 = .ok (.isub, 1) := dk_100 (dk_at dksX7_text_5 3 rfl rfl)
theorem dX7_text_122 : decode cX7_text 122 = .ok (.ireturn, 1) := dk_172 (dk_at dksX7_text_5 4 rfl rfl)
theorem dX7_text_123 : decode cX7_text 123 = .ok (.iconst 0, 1) := dk_3 (dk_at dksX7_text_5 5 rfl rfl)
theorem dX7_text_124 : decode cX7_text 124 = .ok (.istore_n 2, 1) := dk_61 (dk_at dksX7_text_5 6 rfl rfl)
theorem dX7_text_125 : decode cX7_text 125 = .ok (.iload_n 2, 1) := dk_28 (dk_at dksX7_text_5 7 rfl rfl)
theorem dX7_text_126 : decode cX7_text 126 = .ok (.bipush 41, 2) := dk_16 41 (dk_at dksX7_text_5 8 rfl rfl)
theorem dX7_text_128 : decode cX7_text 128 = .ok (.if_icmp .ge 21, 3) := dk_162 0 21 (dk_at dksX7_text_5 10 rfl rfl)
theorem dX7_text_131 : decode cX7_text 131 = .ok (.aload_n 0, 1) := dk_42 (dk_at dksX7_text_5 13 rfl rfl)
theorem dX7_text_132 : decode cX7_text 132 = .ok (.getfield 7, 3) := dk_180 0 7 (dk_at dksX7_text_5 14 rfl rfl)
theorem dX7_text_135 : decode cX7_text 135 = .ok (.iload_n 2, 1) := dk_28 (dk_at dksX7_text_5 17 rfl rfl)
theorem dX7_text_136 : decode cX7_text 136 = .ok (.aload_n 0, 1) := dk_42 (dk_at dksX7_text_5 18 rfl rfl)
theorem dX7_text_137 : decode cX7_text 137 = .ok (.getfield 13, 3) := dk_180 0 13 (dk_at dksX7_text_5 19 rfl rfl)
theorem dX7_text_140 : decode cX7_text 140 = .ok (.iload_n 2, 1) := dk_28 (dk_at dksX7_text_5 22 rfl rfl)
theorem dX7_text_141 : decode cX7_text 141 = .ok (.iaload, 1) := dk_46 (dk_at dksX7_text_5 23 rfl rfl)
theorem dX7_text_142 : decode cX7_text 142 = .ok (.iastore, 1) := dk_79 (dk_at dksX7_text_6 0 rfl rfl)
theorem dX7_text_143 : decode cX7_text 143 = .ok (.iinc 2 1, 3) := dk_132 2 1 (dk_at dksX7_text_6 1 rfl rfl)
theorem dX7_text_146 : decode cX7_text 146 = .ok (.goto (-21), 3) := dk_167 255 235 (dk_at dksX7_text_6 4 rfl rfl)
theorem dX7_text_149 : decode cX7_text 149 = .ok (.aload_n 0, 1) := dk_42 (dk_at dksX7_text_6 7 rfl rfl)
theorem dX7_text_150 : decode cX7_text 150 = .ok (.aload_n 0, 1) := dk_42 (dk_at dksX7_text_6 8 rfl rfl)
theorem dX7_text_151 : decode cX7_text 151 = .ok (.getfield 102, 3) := dk_180 0 102 (dk_at dksX7_text_6 9 rfl rfl)
theorem dX7_text_154 : decode cX7_text 154 = .ok (.putfield 129, 3) := dk_181 0 129 (dk_at dksX7_text_6 12 rfl rfl)
theorem dX7_text_157 : decode cX7_text 157 = .ok (.aload_n 0, 1) := dk_42 (dk_at dksX7_text_6 15 rfl rfl)
theorem dX7_text_158 : decode cX7_text 158 = .ok (.iconst 0, 1) := dk_3 (dk_at dksX7_text_6 16 rfl rfl)
theorem dX7_text_159 : decode cX7_text 159 = .ok (.putfield 132, 3) := dk_181 0 132 (dk_at dksX7_text_6 17 rfl rfl)
theorem dX7_text_162 : decode cX7_text 162 = .ok (.aload_n 0, 1) := dk_42 (dk_at dksX7_text_6 20 rfl rfl)
theorem dX7_text_163 : decode cX7_text 163 = .ok (.getfield 34, 3) := dk_180 0 34 (dk_at dksX7_text_6 21 rfl rfl)
theorem dX7_text_166 : decode cX7_text 166 = .ok (.iconst 0, 1) := dk_3 (dk_at dksX7_text_7 0 rfl rfl)
theorem dX7_text_167 : decode cX7_text 167 = .ok (.iconst 0, 1) := dk_3 (dk_at dksX7_text_7 1 rfl rfl)
theorem dX7_text_168 : decode cX7_text 168 = .ok (.bastore, 1) := dk_84 (dk_at dksX7_text_7 2 rfl rfl)
theorem dX7_text_169 : decode cX7_text 169 = .ok (.aload_n 0, 1) := dk_42 (dk_at dksX7_text_7 3 rfl rfl)
theorem dX7_text_170 : decode cX7_text 170 = .ok (.getfield 34, 3) := dk_180 0 34 (dk_at dksX7_text_7 4 rfl rfl)
theorem dX7_text_173 : decode cX7_text 173 = .ok (.iconst 1, 1) := dk_4 (dk_at dksX7_text_7 7 rfl rfl)
theorem dX7_text_174 : decode cX7_text 174 = .ok (.iconst 0, 1) := dk_3 (dk_at dksX7_text_7 8 rfl rfl)
theorem dX7_text_175 : decode cX7_text 175 = .ok (.bastore, 1) := dk_84 (dk_at dksX7_text_7 9 rfl rfl)
theorem dX7_text_176 : decode cX7_text 176 = .ok (.iload_n 1, 1) := dk_27 (dk_at dksX7_text_7 10 rfl rfl)
theorem dX7_text_177 : decode cX7_text 177 = .ok (.ireturn, 1) := dk_172 (dk_at dksX7_text_7 11 rfl rfl)
abbrev cX7_step : ByteArray := prog_11_method_9_code
def yX7_step : MethodName := ⟨RX7, "step", "()V"⟩
def dkwX7_step_11 : List UInt8 := [96, 181, 0, 69, 27, 16, 59, 159, 0, 8, 42, 4, 182, 0, 87, 177]
abbrev dktX7_step_11 : List UInt8 := dkwX7_step_11 ++ []
def dkwX7_step_10 : List UInt8 := [100, 5, 164, 0, 37, 42, 4, 182, 0, 87, 167, 0, 29, 42, 6, 181, 0, 66, 42, 89, 180, 0, 69, 4]
abbrev dktX7_step_10 : List UInt8 := dkwX7_step_10 ++ dktX7_step_11
def dkwX7_step_9 : List UInt8 := [180, 0, 69, 4, 96, 181, 0, 69, 167, 255, 182, 42, 5, 181, 0, 66, 42, 180, 0, 69, 42, 180, 0, 60]
abbrev dktX7_step_9 : List UInt8 := dkwX7_step_9 ++ dktX7_step_10
def dkwX7_step_8 : List UInt8 := [180, 0, 69, 182, 0, 72, 96, 16, 48, 100, 167, 0, 7, 42, 180, 0, 76, 181, 0, 76, 42, 89]
abbrev dktX7_step_8 : List UInt8 := dkwX7_step_8 ++ dktX7_step_9
def dkwX7_step_7 : List UInt8 := [42, 42, 180, 0, 69, 42, 180, 0, 60, 100, 5, 162, 0, 25, 16, 10, 42, 180, 0, 76, 104, 42, 42]
abbrev dktX7_step_7 : List UInt8 := dkwX7_step_7 ++ dktX7_step_8
def dkwX7_step_6 : List UInt8 := [153, 0, 106, 42, 42, 180, 0, 69, 182, 0, 72, 133, 20, 0, 83, 20, 0, 85, 184, 0, 49, 153, 0, 59]
abbrev dktX7_step_6 : List UInt8 := dkwX7_step_6 ++ dktX7_step_7
def dkwX7_step_5 : List UInt8 := [167, 255, 225, 42, 4, 181, 0, 66, 167, 0, 146, 27, 133, 20, 0, 83, 20, 0, 85, 184, 0, 49]
abbrev dktX7_step_5 : List UInt8 := dkwX7_step_5 ++ dktX7_step_6
def dkwX7_step_4 : List UInt8 := [20, 0, 79, 20, 0, 81, 184, 0, 49, 153, 0, 16, 42, 89, 180, 0, 69, 4, 96, 181, 0, 69]
abbrev dktX7_step_4 : List UInt8 := dkwX7_step_4 ++ dktX7_step_5
def dkwX7_step_3 : List UInt8 := [133, 20, 0, 79, 20, 0, 81, 184, 0, 49, 153, 0, 45, 42, 42, 180, 0, 69, 182, 0, 72, 133]
abbrev dktX7_step_3 : List UInt8 := dkwX7_step_3 ++ dktX7_step_4
def dkwX7_step_2 : List UInt8 := [182, 0, 72, 60, 42, 3, 181, 0, 76, 27, 16, 252, 160, 0, 11, 42, 3, 181, 0, 66, 167, 0, 202, 27]
abbrev dktX7_step_2 : List UInt8 := dkwX7_step_2 ++ dktX7_step_3
def dkwX7_step_1 : List UInt8 := [180, 0, 69, 4, 96, 181, 0, 69, 167, 255, 233, 42, 42, 180, 0, 69, 181, 0, 60, 42, 42, 180, 0, 69]
abbrev dktX7_step_1 : List UInt8 := dkwX7_step_1 ++ dktX7_step_2
def dkwX7_step_0 : List UInt8 := [42, 180, 0, 57, 158, 0, 4, 177, 42, 42, 180, 0, 69, 182, 0, 72, 16, 32, 160, 0, 16, 42, 89]
abbrev dktX7_step_0 : List UInt8 := dkwX7_step_0 ++ dktX7_step_1
theorem dksX7_step_0 : cX7_step.data.toList.drop 0 = dktX7_step_0 := by decide +kernel
theorem dksX7_step_1 : cX7_step.data.toList.drop 23 = dktX7_step_1 := dk_seg dksX7_step_0 23 rfl rfl
theorem dksX7_step_2 : cX7_step.data.toList.drop 47 = dktX7_step_2 := dk_seg dksX7_step_1 24 rfl rfl
theorem dksX7_step_3 : cX7_step.data.toList.drop 71 = dktX7_step_3 := dk_seg dksX7_step_2 24 rfl rfl
theorem dksX7_step_4 : cX7_step.data.toList.drop 93 = dktX7_step_4 := dk_seg dksX7_step_3 22 rfl rfl
theorem dksX7_step_5 : cX7_step.data.toList.drop 115 = dktX7_step_5 := dk_seg dksX7_step_4 22 rfl rfl
theorem dksX7_step_6 : cX7_step.data.toList.drop 137 = dktX7_step_6 := dk_seg dksX7_step_5 22 rfl rfl
theorem dksX7_step_7 : cX7_step.data.toList.drop 161 = dktX7_step_7 := dk_seg dksX7_step_6 24 rfl rfl
theorem dksX7_step_8 : cX7_step.data.toList.drop 184 = dktX7_step_8 := dk_seg dksX7_step_7 23 rfl rfl
theorem dksX7_step_9 : cX7_step.data.toList.drop 206 = dktX7_step_9 := dk_seg dksX7_step_8 22 rfl rfl
theorem dksX7_step_10 : cX7_step.data.toList.drop 230 = dktX7_step_10 := dk_seg dksX7_step_9 24 rfl rfl
theorem dksX7_step_11 : cX7_step.data.toList.drop 254 = dktX7_step_11 := dk_seg dksX7_step_10 24 rfl rfl
theorem dX7_step_0 : decode cX7_step 0 = .ok (.aload_n 0, 1) := dk_42 (dk_at dksX7_step_0 0 rfl rfl)
theorem dX7_step_1 : decode cX7_step 1 = .ok (.getfield 57, 3) := dk_180 0 57 (dk_at dksX7_step_0 1 rfl rfl)
theorem dX7_step_4 : decode cX7_step 4 = .ok (.ifCond .le 4, 3) := dk_158 0 4 (dk_at dksX7_step_0 4 rfl rfl)
theorem dX7_step_7 : decode cX7_step 7 = .ok (.return_, 1) := dk_177 (dk_at dksX7_step_0 7 rfl rfl)
theorem dX7_step_8 : decode cX7_step 8 = .ok (.aload_n 0, 1) := dk_42 (dk_at dksX7_step_0 8 rfl rfl)
theorem dX7_step_9 : decode cX7_step 9 = .ok (.aload_n 0, 1) := dk_42 (dk_at dksX7_step_0 9 rfl rfl)
theorem dX7_step_10 : decode cX7_step 10 = .ok (.getfield 69, 3) := dk_180 0 69 (dk_at dksX7_step_0 10 rfl rfl)
theorem dX7_step_13 : decode cX7_step 13 = .ok (.invokevirtual 72, 3) := dk_182 0 72 (dk_at dksX7_step_0 13 rfl rfl)
theorem dX7_step_16 : decode cX7_step 16 = .ok (.bipush 32, 2) := dk_16 32 (dk_at dksX7_step_0 16 rfl rfl)
theorem dX7_step_18 : decode cX7_step 18 = .ok (.if_icmp .ne 16, 3) := dk_160 0 16 (dk_at dksX7_step_0 18 rfl rfl)
theorem dX7_step_21 : decode cX7_step 21 = .ok (.aload_n 0, 1) := dk_42 (dk_at dksX7_step_0 21 rfl rfl)
theorem dX7_step_22 : decode cX7_step 22 = .ok (.dup, 1) := dk_89 (dk_at dksX7_step_0 22 rfl rfl)
theorem dX7_step_23 : decode cX7_step 23 = .ok (.getfield 69, 3) := dk_180 0 69 (dk_at dksX7_step_1 0 rfl rfl)
theorem dX7_step_26 : decode cX7_step 26 = .ok (.iconst 1, 1) := dk_4 (dk_at dksX7_step_1 3 rfl rfl)
theorem dX7_step_27 : decode cX7_step 27 = .ok (.iadd, 1) := dk_96 (dk_at dksX7_step_1 4 rfl rfl)
theorem dX7_step_28 : decode cX7_step 28 = .ok (.putfield 69, 3) := dk_181 0 69 (dk_at dksX7_step_1 5 rfl rfl)
theorem dX7_step_31 : decode cX7_step 31 = .ok (.goto (-23), 3) := dk_167 255 233 (dk_at dksX7_step_1 8 rfl rfl)
theorem dX7_step_34 : decode cX7_step 34 = .ok (.aload_n 0, 1) := dk_42 (dk_at dksX7_step_1 11 rfl rfl)
theorem dX7_step_35 : decode cX7_step 35 = .ok (.aload_n 0, 1) := dk_42 (dk_at dksX7_step_1 12 rfl rfl)
theorem dX7_step_36 : decode cX7_step 36 = .ok (.getfield 69, 3) := dk_180 0 69 (dk_at dksX7_step_1 13 rfl rfl)
theorem dX7_step_39 : decode cX7_step 39 = .ok (.putfield 60, 3) := dk_181 0 60 (dk_at dksX7_step_1 16 rfl rfl)
theorem dX7_step_42 : decode cX7_step 42 = .ok (.aload_n 0, 1) := dk_42 (dk_at dksX7_step_1 19 rfl rfl)
theorem dX7_step_43 : decode cX7_step 43 = .ok (.aload_n 0, 1) := dk_42 (dk_at dksX7_step_1 20 rfl rfl)
theorem dX7_step_44 : decode cX7_step 44 = .ok (.getfield 69, 3) := dk_180 0 69 (dk_at dksX7_step_1 21 rfl rfl)
theorem dX7_step_47 : decode cX7_step 47 = .ok (.invokevirtual 72, 3) := dk_182 0 72 (dk_at dksX7_step_2 0 rfl rfl)
theorem dX7_step_50 : decode cX7_step 50 = .ok (.istore_n 1, 1) := dk_60 (dk_at dksX7_step_2 3 rfl rfl)
theorem dX7_step_51 : decode cX7_step 51 = .ok (.aload_n 0, 1) := dk_42 (dk_at dksX7_step_2 4 rfl rfl)
theorem dX7_step_52 : decode cX7_step 52 = .ok (.iconst 0, 1) := dk_3 (dk_at dksX7_step_2 5 rfl rfl)
theorem dX7_step_53 : decode cX7_step 53 = .ok (.putfield 76, 3) := dk_181 0 76 (dk_at dksX7_step_2 6 rfl rfl)
theorem dX7_step_56 : decode cX7_step 56 = .ok (.iload_n 1, 1) := dk_27 (dk_at dksX7_step_2 9 rfl rfl)
theorem dX7_step_57 : decode cX7_step 57 = .ok (.bipush (-4), 2) := dk_16 252 (dk_at dksX7_step_2 10 rfl rfl)
theorem dX7_step_59 : decode cX7_step 59 = .ok (.if_icmp .ne 11, 3) := dk_160 0 11 (dk_at dksX7_step_2 12 rfl rfl)
theorem dX7_step_62 : decode cX7_step 62 = .ok (.aload_n 0, 1) := dk_42 (dk_at dksX7_step_2 15 rfl rfl)
theorem dX7_step_63 : decode cX7_step 63 = .ok (.iconst 0, 1) := dk_3 (dk_at dksX7_step_2 16 rfl rfl)
theorem dX7_step_64 : decode cX7_step 64 = .ok (.putfield 66, 3) := dk_181 0 66 (dk_at dksX7_step_2 17 rfl rfl)
theorem dX7_step_67 : decode cX7_step 67 = .ok (.goto 202, 3) := dk_167 0 202 (dk_at dksX7_step_2 20 rfl rfl)
theorem dX7_step_70 : decode cX7_step 70 = .ok (.iload_n 1, 1) := dk_27 (dk_at dksX7_step_2 23 rfl rfl)
theorem dX7_step_71 : decode cX7_step 71 = .ok (.i2l, 1) := dk_133 (dk_at dksX7_step_3 0 rfl rfl)
theorem dX7_step_72 : decode cX7_step 72 = .ok (.ldc2_w 79, 3) := dk_20 0 79 (dk_at dksX7_step_3 1 rfl rfl)
theorem dX7_step_75 : decode cX7_step 75 = .ok (.ldc2_w 81, 3) := dk_20 0 81 (dk_at dksX7_step_3 4 rfl rfl)
theorem dX7_step_78 : decode cX7_step 78 = .ok (.invokestatic 49, 3) := dk_184 0 49 (dk_at dksX7_step_3 7 rfl rfl)
theorem dX7_step_81 : decode cX7_step 81 = .ok (.ifCond .eq 45, 3) := dk_153 0 45 (dk_at dksX7_step_3 10 rfl rfl)
theorem dX7_step_84 : decode cX7_step 84 = .ok (.aload_n 0, 1) := dk_42 (dk_at dksX7_step_3 13 rfl rfl)
theorem dX7_step_85 : decode cX7_step 85 = .ok (.aload_n 0, 1) := dk_42 (dk_at dksX7_step_3 14 rfl rfl)
theorem dX7_step_86 : decode cX7_step 86 = .ok (.getfield 69, 3) := dk_180 0 69 (dk_at dksX7_step_3 15 rfl rfl)
theorem dX7_step_89 : decode cX7_step 89 = .ok (.invokevirtual 72, 3) := dk_182 0 72 (dk_at dksX7_step_3 18 rfl rfl)
theorem dX7_step_92 : decode cX7_step 92 = .ok (.i2l, 1) := dk_133 (dk_at dksX7_step_3 21 rfl rfl)
theorem dX7_step_93 : decode cX7_step 93 = .ok (.ldc2_w 79, 3) := dk_20 0 79 (dk_at dksX7_step_4 0 rfl rfl)
theorem dX7_step_96 : decode cX7_step 96 = .ok (.ldc2_w 81, 3) := dk_20 0 81 (dk_at dksX7_step_4 3 rfl rfl)
theorem dX7_step_99 : decode cX7_step 99 = .ok (.invokestatic 49, 3) := dk_184 0 49 (dk_at dksX7_step_4 6 rfl rfl)
theorem dX7_step_102 : decode cX7_step 102 = .ok (.ifCond .eq 16, 3) := dk_153 0 16 (dk_at dksX7_step_4 9 rfl rfl)
theorem dX7_step_105 : decode cX7_step 105 = .ok (.aload_n 0, 1) := dk_42 (dk_at dksX7_step_4 12 rfl rfl)
theorem dX7_step_106 : decode cX7_step 106 = .ok (.dup, 1) := dk_89 (dk_at dksX7_step_4 13 rfl rfl)
theorem dX7_step_107 : decode cX7_step 107 = .ok (.getfield 69, 3) := dk_180 0 69 (dk_at dksX7_step_4 14 rfl rfl)
theorem dX7_step_110 : decode cX7_step 110 = .ok (.iconst 1, 1) := dk_4 (dk_at dksX7_step_4 17 rfl rfl)
theorem dX7_step_111 : decode cX7_step 111 = .ok (.iadd, 1) := dk_96 (dk_at dksX7_step_4 18 rfl rfl)
theorem dX7_step_112 : decode cX7_step 112 = .ok (.putfield 69, 3) := dk_181 0 69 (dk_at dksX7_step_4 19 rfl rfl)
theorem dX7_step_115 : decode cX7_step 115 = .ok (.goto (-31), 3) := dk_167 255 225 (dk_at dksX7_step_5 0 rfl rfl)
theorem dX7_step_118 : decode cX7_step 118 = .ok (.aload_n 0, 1) := dk_42 (dk_at dksX7_step_5 3 rfl rfl)
theorem dX7_step_119 : decode cX7_step 119 = .ok (.iconst 1, 1) := dk_4 (dk_at dksX7_step_5 4 rfl rfl)
theorem dX7_step_120 : decode cX7_step 120 = .ok (.putfield 66, 3) := dk_181 0 66 (dk_at dksX7_step_5 5 rfl rfl)
theorem dX7_step_123 : decode cX7_step 123 = .ok (.goto 146, 3) := dk_167 0 146 (dk_at dksX7_step_5 8 rfl rfl)
theorem dX7_step_126 : decode cX7_step 126 = .ok (.iload_n 1, 1) := dk_27 (dk_at dksX7_step_5 11 rfl rfl)
theorem dX7_step_127 : decode cX7_step 127 = .ok (.i2l, 1) := dk_133 (dk_at dksX7_step_5 12 rfl rfl)
theorem dX7_step_128 : decode cX7_step 128 = .ok (.ldc2_w 83, 3) := dk_20 0 83 (dk_at dksX7_step_5 13 rfl rfl)
theorem dX7_step_131 : decode cX7_step 131 = .ok (.ldc2_w 85, 3) := dk_20 0 85 (dk_at dksX7_step_5 16 rfl rfl)
theorem dX7_step_134 : decode cX7_step 134 = .ok (.invokestatic 49, 3) := dk_184 0 49 (dk_at dksX7_step_5 19 rfl rfl)
theorem dX7_step_137 : decode cX7_step 137 = .ok (.ifCond .eq 106, 3) := dk_153 0 106 (dk_at dksX7_step_6 0 rfl rfl)
theorem dX7_step_140 : decode cX7_step 140 = .ok (.aload_n 0, 1) := dk_42 (dk_at dksX7_step_6 3 rfl rfl)
theorem dX7_step_141 : decode cX7_step 141 = .ok (.aload_n 0, 1) := dk_42 (dk_at dksX7_step_6 4 rfl rfl)
theorem dX7_step_142 : decode cX7_step 142 = .ok (.getfield 69, 3) := dk_180 0 69 (dk_at dksX7_step_6 5 rfl rfl)
theorem dX7_step_145 : decode cX7_step 145 = .ok (.invokevirtual 72, 3) := dk_182 0 72 (dk_at dksX7_step_6 8 rfl rfl)
theorem dX7_step_148 : decode cX7_step 148 = .ok (.i2l, 1) := dk_133 (dk_at dksX7_step_6 11 rfl rfl)
theorem dX7_step_149 : decode cX7_step 149 = .ok (.ldc2_w 83, 3) := dk_20 0 83 (dk_at dksX7_step_6 12 rfl rfl)
theorem dX7_step_152 : decode cX7_step 152 = .ok (.ldc2_w 85, 3) := dk_20 0 85 (dk_at dksX7_step_6 15 rfl rfl)
theorem dX7_step_155 : decode cX7_step 155 = .ok (.invokestatic 49, 3) := dk_184 0 49 (dk_at dksX7_step_6 18 rfl rfl)
theorem dX7_step_158 : decode cX7_step 158 = .ok (.ifCond .eq 59, 3) := dk_153 0 59 (dk_at dksX7_step_6 21 rfl rfl)
theorem dX7_step_161 : decode cX7_step 161 = .ok (.aload_n 0, 1) := dk_42 (dk_at dksX7_step_7 0 rfl rfl)
theorem dX7_step_162 : decode cX7_step 162 = .ok (.aload_n 0, 1) := dk_42 (dk_at dksX7_step_7 1 rfl rfl)
theorem dX7_step_163 : decode cX7_step 163 = .ok (.getfield 69, 3) := dk_180 0 69 (dk_at dksX7_step_7 2 rfl rfl)
theorem dX7_step_166 : decode cX7_step 166 = .ok (.aload_n 0, 1) := dk_42 (dk_at dksX7_step_7 5 rfl rfl)
theorem dX7_step_167 : decode cX7_step 167 = .ok (.getfield 60, 3) := dk_180 0 60 (dk_at dksX7_step_7 6 rfl rfl)
theorem dX7_step_170 : decode cX7_step 170 = .ok (.isub, 1) := dk_100 (dk_at dksX7_step_7 9 rfl rfl)
theorem dX7_step_171 : decode cX7_step 171 = .ok (.iconst 2, 1) := dk_5 (dk_at dksX7_step_7 10 rfl rfl)
theorem dX7_step_172 : decode cX7_step 172 = .ok (.if_icmp .ge 25, 3) := dk_162 0 25 (dk_at dksX7_step_7 11 rfl rfl)
theorem dX7_step_175 : decode cX7_step 175 = .ok (.bipush 10, 2) := dk_16 10 (dk_at dksX7_step_7 14 rfl rfl)
theorem dX7_step_177 : decode cX7_step 177 = .ok (.aload_n 0, 1) := dk_42 (dk_at dksX7_step_7 16 rfl rfl)
theorem dX7_step_178 : decode cX7_step 178 = .ok (.getfield 76, 3) := dk_180 0 76 (dk_at dksX7_step_7 17 rfl rfl)
theorem dX7_step_181 : decode cX7_step 181 = .ok (.imul, 1) := dk_104 (dk_at dksX7_step_7 20 rfl rfl)
theorem dX7_step_182 : decode cX7_step 182 = .ok (.aload_n 0, 1) := dk_42 (dk_at dksX7_step_7 21 rfl rfl)
theorem dX7_step_183 : decode cX7_step 183 = .ok (.aload_n 0, 1) := dk_42 (dk_at dksX7_step_7 22 rfl rfl)
theorem dX7_step_184 : decode cX7_step 184 = .ok (.getfield 69, 3) := dk_180 0 69 (dk_at dksX7_step_8 0 rfl rfl)
theorem dX7_step_187 : decode cX7_step 187 = .ok (.invokevirtual 72, 3) := dk_182 0 72 (dk_at dksX7_step_8 3 rfl rfl)
theorem dX7_step_190 : decode cX7_step 190 = .ok (.iadd, 1) := dk_96 (dk_at dksX7_step_8 6 rfl rfl)
theorem dX7_step_191 : decode cX7_step 191 = .ok (.bipush 48, 2) := dk_16 48 (dk_at dksX7_step_8 7 rfl rfl)
theorem dX7_step_193 : decode cX7_step 193 = .ok (.isub, 1) := dk_100 (dk_at dksX7_step_8 9 rfl rfl)
theorem dX7_step_194 : decode cX7_step 194 = .ok (.goto 7, 3) := dk_167 0 7 (dk_at dksX7_step_8 10 rfl rfl)
theorem dX7_step_197 : decode cX7_step 197 = .ok (.aload_n 0, 1) := dk_42 (dk_at dksX7_step_8 13 rfl rfl)
theorem dX7_step_198 : decode cX7_step 198 = .ok (.getfield 76, 3) := dk_180 0 76 (dk_at dksX7_step_8 14 rfl rfl)
theorem dX7_step_201 : decode cX7_step 201 = .ok (.putfield 76, 3) := dk_181 0 76 (dk_at dksX7_step_8 17 rfl rfl)
theorem dX7_step_204 : decode cX7_step 204 = .ok (.aload_n 0, 1) := dk_42 (dk_at dksX7_step_8 20 rfl rfl)
theorem dX7_step_205 : decode cX7_step 205 = .ok (.dup, 1) := dk_89 (dk_at dksX7_step_8 21 rfl rfl)
theorem dX7_step_206 : decode cX7_step 206 = .ok (.getfield 69, 3) := dk_180 0 69 (dk_at dksX7_step_9 0 rfl rfl)
theorem dX7_step_209 : decode cX7_step 209 = .ok (.iconst 1, 1) := dk_4 (dk_at dksX7_step_9 3 rfl rfl)
theorem dX7_step_210 : decode cX7_step 210 = .ok (.iadd, 1) := dk_96 (dk_at dksX7_step_9 4 rfl rfl)
theorem dX7_step_211 : decode cX7_step 211 = .ok (.putfield 69, 3) := dk_181 0 69 (dk_at dksX7_step_9 5 rfl rfl)
theorem dX7_step_214 : decode cX7_step 214 = .ok (.goto (-74), 3) := dk_167 255 182 (dk_at dksX7_step_9 8 rfl rfl)
theorem dX7_step_217 : decode cX7_step 217 = .ok (.aload_n 0, 1) := dk_42 (dk_at dksX7_step_9 11 rfl rfl)
theorem dX7_step_218 : decode cX7_step 218 = .ok (.iconst 2, 1) := dk_5 (dk_at dksX7_step_9 12 rfl rfl)
theorem dX7_step_219 : decode cX7_step 219 = .ok (.putfield 66, 3) := dk_181 0 66 (dk_at dksX7_step_9 13 rfl rfl)
theorem dX7_step_222 : decode cX7_step 222 = .ok (.aload_n 0, 1) := dk_42 (dk_at dksX7_step_9 16 rfl rfl)
theorem dX7_step_223 : decode cX7_step 223 = .ok (.getfield 69, 3) := dk_180 0 69 (dk_at dksX7_step_9 17 rfl rfl)
theorem dX7_step_226 : decode cX7_step 226 = .ok (.aload_n 0, 1) := dk_42 (dk_at dksX7_step_9 20 rfl rfl)
theorem dX7_step_227 : decode cX7_step 227 = .ok (.getfield 60, 3) := dk_180 0 60 (dk_at dksX7_step_9 21 rfl rfl)
theorem dX7_step_230 : decode cX7_step 230 = .ok (.isub, 1) := dk_100 (dk_at dksX7_step_10 0 rfl rfl)
theorem dX7_step_231 : decode cX7_step 231 = .ok (.iconst 2, 1) := dk_5 (dk_at dksX7_step_10 1 rfl rfl)
theorem dX7_step_232 : decode cX7_step 232 = .ok (.if_icmp .le 37, 3) := dk_164 0 37 (dk_at dksX7_step_10 2 rfl rfl)
theorem dX7_step_235 : decode cX7_step 235 = .ok (.aload_n 0, 1) := dk_42 (dk_at dksX7_step_10 5 rfl rfl)
theorem dX7_step_236 : decode cX7_step 236 = .ok (.iconst 1, 1) := dk_4 (dk_at dksX7_step_10 6 rfl rfl)
theorem dX7_step_237 : decode cX7_step 237 = .ok (.invokevirtual 87, 3) := dk_182 0 87 (dk_at dksX7_step_10 7 rfl rfl)
theorem dX7_step_240 : decode cX7_step 240 = .ok (.goto 29, 3) := dk_167 0 29 (dk_at dksX7_step_10 10 rfl rfl)
theorem dX7_step_243 : decode cX7_step 243 = .ok (.aload_n 0, 1) := dk_42 (dk_at dksX7_step_10 13 rfl rfl)
theorem dX7_step_244 : decode cX7_step 244 = .ok (.iconst 3, 1) := dk_6 (dk_at dksX7_step_10 14 rfl rfl)
theorem dX7_step_245 : decode cX7_step 245 = .ok (.putfield 66, 3) := dk_181 0 66 (dk_at dksX7_step_10 15 rfl rfl)
theorem dX7_step_248 : decode cX7_step 248 = .ok (.aload_n 0, 1) := dk_42 (dk_at dksX7_step_10 18 rfl rfl)
theorem dX7_step_249 : decode cX7_step 249 = .ok (.dup, 1) := dk_89 (dk_at dksX7_step_10 19 rfl rfl)
theorem dX7_step_250 : decode cX7_step 250 = .ok (.getfield 69, 3) := dk_180 0 69 (dk_at dksX7_step_10 20 rfl rfl)
theorem dX7_step_253 : decode cX7_step 253 = .ok (.iconst 1, 1) := dk_4 (dk_at dksX7_step_10 23 rfl rfl)
theorem dX7_step_254 : decode cX7_step 254 = .ok (.iadd, 1) := dk_96 (dk_at dksX7_step_11 0 rfl rfl)
theorem dX7_step_255 : decode cX7_step 255 = .ok (.putfield 69, 3) := dk_181 0 69 (dk_at dksX7_step_11 1 rfl rfl)
theorem dX7_step_258 : decode cX7_step 258 = .ok (.iload_n 1, 1) := dk_27 (dk_at dksX7_step_11 4 rfl rfl)
theorem dX7_step_259 : decode cX7_step 259 = .ok (.bipush 59, 2) := dk_16 59 (dk_at dksX7_step_11 5 rfl rfl)
theorem dX7_step_261 : decode cX7_step 261 = .ok (.if_icmp .eq 8, 3) := dk_159 0 8 (dk_at dksX7_step_11 7 rfl rfl)
theorem dX7_step_264 : decode cX7_step 264 = .ok (.aload_n 0, 1) := dk_42 (dk_at dksX7_step_11 10 rfl rfl)
theorem dX7_step_265 : decode cX7_step 265 = .ok (.iconst 1, 1) := dk_4 (dk_at dksX7_step_11 11 rfl rfl)
theorem dX7_step_266 : decode cX7_step 266 = .ok (.invokevirtual 87, 3) := dk_182 0 87 (dk_at dksX7_step_11 12 rfl rfl)
theorem dX7_step_269 : decode cX7_step 269 = .ok (.return_, 1) := dk_177 (dk_at dksX7_step_11 15 rfl rfl)
abbrev cX7_byteAt : ByteArray := prog_11_method_6_code
def yX7_byteAt : MethodName := ⟨RX7, "byteAt", "(I)I"⟩
def dkwX7_byteAt_0 : List UInt8 := [27, 42, 180, 0, 53, 162, 0, 12, 42, 180, 0, 16, 27, 46, 167, 0, 5, 16, 252, 172]
abbrev dktX7_byteAt_0 : List UInt8 := dkwX7_byteAt_0 ++ []
theorem dksX7_byteAt_0 : cX7_byteAt.data.toList.drop 0 = dktX7_byteAt_0 := by decide +kernel
theorem dX7_byteAt_0 : decode cX7_byteAt 0 = .ok (.iload_n 1, 1) := dk_27 (dk_at dksX7_byteAt_0 0 rfl rfl)
theorem dX7_byteAt_1 : decode cX7_byteAt 1 = .ok (.aload_n 0, 1) := dk_42 (dk_at dksX7_byteAt_0 1 rfl rfl)
theorem dX7_byteAt_2 : decode cX7_byteAt 2 = .ok (.getfield 53, 3) := dk_180 0 53 (dk_at dksX7_byteAt_0 2 rfl rfl)
theorem dX7_byteAt_5 : decode cX7_byteAt 5 = .ok (.if_icmp .ge 12, 3) := dk_162 0 12 (dk_at dksX7_byteAt_0 5 rfl rfl)
theorem dX7_byteAt_8 : decode cX7_byteAt 8 = .ok (.aload_n 0, 1) := dk_42 (dk_at dksX7_byteAt_0 8 rfl rfl)
theorem dX7_byteAt_9 : decode cX7_byteAt 9 = .ok (.getfield 16, 3) := dk_180 0 16 (dk_at dksX7_byteAt_0 9 rfl rfl)
theorem dX7_byteAt_12 : decode cX7_byteAt 12 = .ok (.iload_n 1, 1) := dk_27 (dk_at dksX7_byteAt_0 12 rfl rfl)
theorem dX7_byteAt_13 : decode cX7_byteAt 13 = .ok (.iaload, 1) := dk_46 (dk_at dksX7_byteAt_0 13 rfl rfl)
theorem dX7_byteAt_14 : decode cX7_byteAt 14 = .ok (.goto 5, 3) := dk_167 0 5 (dk_at dksX7_byteAt_0 14 rfl rfl)
theorem dX7_byteAt_17 : decode cX7_byteAt 17 = .ok (.bipush (-4), 2) := dk_16 252 (dk_at dksX7_byteAt_0 17 rfl rfl)
theorem dX7_byteAt_19 : decode cX7_byteAt 19 = .ok (.ireturn, 1) := dk_172 (dk_at dksX7_byteAt_0 19 rfl rfl)
abbrev cX7_fails : ByteArray := prog_11_method_7_code
def yX7_fails : MethodName := ⟨RX7, "fails", "(I)V"⟩
def dkwX7_fails_0 : List UInt8 := [42, 180, 0, 57, 154, 0, 16, 42, 27, 181, 0, 57, 42, 42, 180, 0, 60, 181, 0, 63, 177]
abbrev dktX7_fails_0 : List UInt8 := dkwX7_fails_0 ++ []
theorem dksX7_fails_0 : cX7_fails.data.toList.drop 0 = dktX7_fails_0 := by decide +kernel
theorem dX7_fails_0 : decode cX7_fails 0 = .ok (.aload_n 0, 1) := dk_42 (dk_at dksX7_fails_0 0 rfl rfl)
theorem dX7_fails_1 : decode cX7_fails 1 = .ok (.getfield 57, 3) := dk_180 0 57 (dk_at dksX7_fails_0 1 rfl rfl)
theorem dX7_fails_4 : decode cX7_fails 4 = .ok (.ifCond .ne 16, 3) := dk_154 0 16 (dk_at dksX7_fails_0 4 rfl rfl)
theorem dX7_fails_7 : decode cX7_fails 7 = .ok (.aload_n 0, 1) := dk_42 (dk_at dksX7_fails_0 7 rfl rfl)
theorem dX7_fails_8 : decode cX7_fails 8 = .ok (.iload_n 1, 1) := dk_27 (dk_at dksX7_fails_0 8 rfl rfl)
theorem dX7_fails_9 : decode cX7_fails 9 = .ok (.putfield 57, 3) := dk_181 0 57 (dk_at dksX7_fails_0 9 rfl rfl)
theorem dX7_fails_12 : decode cX7_fails 12 = .ok (.aload_n 0, 1) := dk_42 (dk_at dksX7_fails_0 12 rfl rfl)
theorem dX7_fails_13 : decode cX7_fails 13 = .ok (.aload_n 0, 1) := dk_42 (dk_at dksX7_fails_0 13 rfl rfl)
theorem dX7_fails_14 : decode cX7_fails 14 = .ok (.getfield 60, 3) := dk_180 0 60 (dk_at dksX7_fails_0 14 rfl rfl)
theorem dX7_fails_17 : decode cX7_fails 17 = .ok (.putfield 63, 3) := dk_181 0 63 (dk_at dksX7_fails_0 17 rfl rfl)
theorem dX7_fails_20 : decode cX7_fails 20 = .ok (.return_, 1) := dk_177 (dk_at dksX7_fails_0 20 rfl rfl)
abbrev cX7_readLine : ByteArray := prog_11_method_15_code
def yX7_readLine : MethodName := ⟨RX7, "readLine", "()V"⟩
def dkwX7_readLine_3 : List UInt8 := [182, 0, 87, 42, 182, 0, 91, 177]
abbrev dktX7_readLine_3 : List UInt8 := dkwX7_readLine_3 ++ []
def dkwX7_readLine_2 : List UInt8 := [42, 27, 182, 0, 120, 42, 180, 0, 57, 154, 0, 16, 42, 180, 0, 66, 6, 159, 0, 8, 42, 5]
abbrev dktX7_readLine_2 : List UInt8 := dkwX7_readLine_2 ++ dktX7_readLine_3
def dkwX7_readLine_1 : List UInt8 := [27, 182, 0, 117, 153, 0, 8, 42, 8, 182, 0, 87, 42, 182, 0, 91, 42, 180, 0, 57, 158, 0, 4, 177]
abbrev dktX7_readLine_1 : List UInt8 := dkwX7_readLine_1 ++ dktX7_readLine_2
def dkwX7_readLine_0 : List UInt8 := [42, 182, 0, 112, 60, 27, 133, 9, 20, 0, 115, 184, 0, 49, 154, 0, 9, 42, 5, 182, 0, 87, 177, 42]
abbrev dktX7_readLine_0 : List UInt8 := dkwX7_readLine_0 ++ dktX7_readLine_1
theorem dksX7_readLine_0 : cX7_readLine.data.toList.drop 0 = dktX7_readLine_0 := by decide +kernel
theorem dksX7_readLine_1 : cX7_readLine.data.toList.drop 24 = dktX7_readLine_1 := dk_seg dksX7_readLine_0 24 rfl rfl
theorem dksX7_readLine_2 : cX7_readLine.data.toList.drop 48 = dktX7_readLine_2 := dk_seg dksX7_readLine_1 24 rfl rfl
theorem dksX7_readLine_3 : cX7_readLine.data.toList.drop 70 = dktX7_readLine_3 := dk_seg dksX7_readLine_2 22 rfl rfl
theorem dX7_readLine_0 : decode cX7_readLine 0 = .ok (.aload_n 0, 1) := dk_42 (dk_at dksX7_readLine_0 0 rfl rfl)
theorem dX7_readLine_1 : decode cX7_readLine 1 = .ok (.invokevirtual 112, 3) := dk_182 0 112 (dk_at dksX7_readLine_0 1 rfl rfl)
theorem dX7_readLine_4 : decode cX7_readLine 4 = .ok (.istore_n 1, 1) := dk_60 (dk_at dksX7_readLine_0 4 rfl rfl)
theorem dX7_readLine_5 : decode cX7_readLine 5 = .ok (.iload_n 1, 1) := dk_27 (dk_at dksX7_readLine_0 5 rfl rfl)
theorem dX7_readLine_6 : decode cX7_readLine 6 = .ok (.i2l, 1) := dk_133 (dk_at dksX7_readLine_0 6 rfl rfl)
theorem dX7_readLine_7 : decode cX7_readLine 7 = .ok (.lconst 0, 1) := dk_9 (dk_at dksX7_readLine_0 7 rfl rfl)
theorem dX7_readLine_8 : decode cX7_readLine 8 = .ok (.ldc2_w 115, 3) := dk_20 0 115 (dk_at dksX7_readLine_0 8 rfl rfl)
theorem dX7_readLine_11 : decode cX7_readLine 11 = .ok (.invokestatic 49, 3) := dk_184 0 49 (dk_at dksX7_readLine_0 11 rfl rfl)
theorem dX7_readLine_14 : decode cX7_readLine 14 = .ok (.ifCond .ne 9, 3) := dk_154 0 9 (dk_at dksX7_readLine_0 14 rfl rfl)
theorem dX7_readLine_17 : decode cX7_readLine 17 = .ok (.aload_n 0, 1) := dk_42 (dk_at dksX7_readLine_0 17 rfl rfl)
theorem dX7_readLine_18 : decode cX7_readLine 18 = .ok (.iconst 2, 1) := dk_5 (dk_at dksX7_readLine_0 18 rfl rfl)
theorem dX7_readLine_19 : decode cX7_readLine 19 = .ok (.invokevirtual 87, 3) := dk_182 0 87 (dk_at dksX7_readLine_0 19 rfl rfl)
theorem dX7_readLine_22 : decode cX7_readLine 22 = .ok (.return_, 1) := dk_177 (dk_at dksX7_readLine_0 22 rfl rfl)
theorem dX7_readLine_23 : decode cX7_readLine 23 = .ok (.aload_n 0, 1) := dk_42 (dk_at dksX7_readLine_0 23 rfl rfl)
theorem dX7_readLine_24 : decode cX7_readLine 24 = .ok (.iload_n 1, 1) := dk_27 (dk_at dksX7_readLine_1 0 rfl rfl)
theorem dX7_readLine_25 : decode cX7_readLine 25 = .ok (.invokevirtual 117, 3) := dk_182 0 117 (dk_at dksX7_readLine_1 1 rfl rfl)
theorem dX7_readLine_28 : decode cX7_readLine 28 = .ok (.ifCond .eq 8, 3) := dk_153 0 8 (dk_at dksX7_readLine_1 4 rfl rfl)
theorem dX7_readLine_31 : decode cX7_readLine 31 = .ok (.aload_n 0, 1) := dk_42 (dk_at dksX7_readLine_1 7 rfl rfl)
theorem dX7_readLine_32 : decode cX7_readLine 32 = .ok (.iconst 5, 1) := dk_8 (dk_at dksX7_readLine_1 8 rfl rfl)
theorem dX7_readLine_33 : decode cX7_readLine 33 = .ok (.invokevirtual 87, 3) := dk_182 0 87 (dk_at dksX7_readLine_1 9 rfl rfl)
theorem dX7_readLine_36 : decode cX7_readLine 36 = .ok (.aload_n 0, 1) := dk_42 (dk_at dksX7_readLine_1 12 rfl rfl)
theorem dX7_readLine_37 : decode cX7_readLine 37 = .ok (.invokevirtual 91, 3) := dk_182 0 91 (dk_at dksX7_readLine_1 13 rfl rfl)
theorem dX7_readLine_40 : decode cX7_readLine 40 = .ok (.aload_n 0, 1) := dk_42 (dk_at dksX7_readLine_1 16 rfl rfl)
theorem dX7_readLine_41 : decode cX7_readLine 41 = .ok (.getfield 57, 3) := dk_180 0 57 (dk_at dksX7_readLine_1 17 rfl rfl)
theorem dX7_readLine_44 : decode cX7_readLine 44 = .ok (.ifCond .le 4, 3) := dk_158 0 4 (dk_at dksX7_readLine_1 20 rfl rfl)
theorem dX7_readLine_47 : decode cX7_readLine 47 = .ok (.return_, 1) := dk_177 (dk_at dksX7_readLine_1 23 rfl rfl)
theorem dX7_readLine_48 : decode cX7_readLine 48 = .ok (.aload_n 0, 1) := dk_42 (dk_at dksX7_readLine_2 0 rfl rfl)
theorem dX7_readLine_49 : decode cX7_readLine 49 = .ok (.iload_n 1, 1) := dk_27 (dk_at dksX7_readLine_2 1 rfl rfl)
theorem dX7_readLine_50 : decode cX7_readLine 50 = .ok (.invokevirtual 120, 3) := dk_182 0 120 (dk_at dksX7_readLine_2 2 rfl rfl)
theorem dX7_readLine_53 : decode cX7_readLine 53 = .ok (.aload_n 0, 1) := dk_42 (dk_at dksX7_readLine_2 5 rfl rfl)
theorem dX7_readLine_54 : decode cX7_readLine 54 = .ok (.getfield 57, 3) := dk_180 0 57 (dk_at dksX7_readLine_2 6 rfl rfl)
theorem dX7_readLine_57 : decode cX7_readLine 57 = .ok (.ifCond .ne 16, 3) := dk_154 0 16 (dk_at dksX7_readLine_2 9 rfl rfl)
theorem dX7_readLine_60 : decode cX7_readLine 60 = .ok (.aload_n 0, 1) := dk_42 (dk_at dksX7_readLine_2 12 rfl rfl)
theorem dX7_readLine_61 : decode cX7_readLine 61 = .ok (.getfield 66, 3) := dk_180 0 66 (dk_at dksX7_readLine_2 13 rfl rfl)
theorem dX7_readLine_64 : decode cX7_readLine 64 = .ok (.iconst 3, 1) := dk_6 (dk_at dksX7_readLine_2 16 rfl rfl)
theorem dX7_readLine_65 : decode cX7_readLine 65 = .ok (.if_icmp .eq 8, 3) := dk_159 0 8 (dk_at dksX7_readLine_2 17 rfl rfl)
theorem dX7_readLine_68 : decode cX7_readLine 68 = .ok (.aload_n 0, 1) := dk_42 (dk_at dksX7_readLine_2 20 rfl rfl)
theorem dX7_readLine_69 : decode cX7_readLine 69 = .ok (.iconst 2, 1) := dk_5 (dk_at dksX7_readLine_2 21 rfl rfl)
theorem dX7_readLine_70 : decode cX7_readLine 70 = .ok (.invokevirtual 87, 3) := dk_182 0 87 (dk_at dksX7_readLine_3 0 rfl rfl)
theorem dX7_readLine_73 : decode cX7_readLine 73 = .ok (.aload_n 0, 1) := dk_42 (dk_at dksX7_readLine_3 3 rfl rfl)
theorem dX7_readLine_74 : decode cX7_readLine 74 = .ok (.invokevirtual 91, 3) := dk_182 0 91 (dk_at dksX7_readLine_3 4 rfl rfl)
theorem dX7_readLine_77 : decode cX7_readLine 77 = .ok (.return_, 1) := dk_177 (dk_at dksX7_readLine_3 7 rfl rfl)
abbrev cX7_nameHere : ByteArray := prog_11_method_8_code
def yX7_nameHere : MethodName := ⟨RX7, "nameHere", "()I"⟩
def dkwX7_nameHere_5 : List UInt8 := [16, 252, 172]
abbrev dktX7_nameHere_5 : List UInt8 := dkwX7_nameHere_5 ++ []
def dkwX7_nameHere_4 : List UInt8 := [4, 167, 0, 4, 3, 61, 132, 3, 1, 167, 255, 204, 28, 153, 0, 5, 27, 172, 132, 1, 1, 167, 255, 143]
abbrev dktX7_nameHere_4 : List UInt8 := dkwX7_nameHere_4 ++ dktX7_nameHere_5
def dkwX7_nameHere_3 : List UInt8 := [180, 0, 60, 29, 96, 182, 0, 72, 42, 180, 0, 22, 42, 180, 0, 19, 27, 46, 29, 96, 46, 160, 0, 7]
abbrev dktX7_nameHere_3 : List UInt8 := dkwX7_nameHere_3 ++ dktX7_nameHere_4
def dkwX7_nameHere_2 : List UInt8 := [61, 3, 62, 28, 153, 0, 54, 29, 42, 180, 0, 69, 42, 180, 0, 60, 100, 162, 0, 41, 42, 42]
abbrev dktX7_nameHere_2 : List UInt8 := dkwX7_nameHere_2 ++ dktX7_nameHere_3
def dkwX7_nameHere_1 : List UInt8 := [100, 42, 180, 0, 19, 27, 4, 96, 46, 42, 180, 0, 19, 27, 46, 100, 160, 0, 7, 4, 167, 0, 4, 3]
abbrev dktX7_nameHere_1 : List UInt8 := dkwX7_nameHere_1 ++ dktX7_nameHere_2
def dkwX7_nameHere_0 : List UInt8 := [3, 60, 27, 16, 7, 162, 0, 113, 42, 180, 0, 66, 4, 160, 0, 105, 42, 180, 0, 69, 42, 180, 0, 60]
abbrev dktX7_nameHere_0 : List UInt8 := dkwX7_nameHere_0 ++ dktX7_nameHere_1
theorem dksX7_nameHere_0 : cX7_nameHere.data.toList.drop 0 = dktX7_nameHere_0 := by decide +kernel
theorem dksX7_nameHere_1 : cX7_nameHere.data.toList.drop 24 = dktX7_nameHere_1 := dk_seg dksX7_nameHere_0 24 rfl rfl
theorem dksX7_nameHere_2 : cX7_nameHere.data.toList.drop 48 = dktX7_nameHere_2 := dk_seg dksX7_nameHere_1 24 rfl rfl
theorem dksX7_nameHere_3 : cX7_nameHere.data.toList.drop 70 = dktX7_nameHere_3 := dk_seg dksX7_nameHere_2 22 rfl rfl
theorem dksX7_nameHere_4 : cX7_nameHere.data.toList.drop 94 = dktX7_nameHere_4 := dk_seg dksX7_nameHere_3 24 rfl rfl
theorem dksX7_nameHere_5 : cX7_nameHere.data.toList.drop 118 = dktX7_nameHere_5 := dk_seg dksX7_nameHere_4 24 rfl rfl
theorem dX7_nameHere_0 : decode cX7_nameHere 0 = .ok (.iconst 0, 1) := dk_3 (dk_at dksX7_nameHere_0 0 rfl rfl)
theorem dX7_nameHere_1 : decode cX7_nameHere 1 = .ok (.istore_n 1, 1) := dk_60 (dk_at dksX7_nameHere_0 1 rfl rfl)
theorem dX7_nameHere_2 : decode cX7_nameHere 2 = .ok (.iload_n 1, 1) := dk_27 (dk_at dksX7_nameHere_0 2 rfl rfl)
theorem dX7_nameHere_3 : decode cX7_nameHere 3 = .ok (.bipush 7, 2) := dk_16 7 (dk_at dksX7_nameHere_0 3 rfl rfl)
theorem dX7_nameHere_5 : decode cX7_nameHere 5 = .ok (.if_icmp .ge 113, 3) := dk_162 0 113 (dk_at dksX7_nameHere_0 5 rfl rfl)
theorem dX7_nameHere_8 : decode cX7_nameHere 8 = .ok (.aload_n 0, 1) := dk_42 (dk_at dksX7_nameHere_0 8 rfl rfl)
theorem dX7_nameHere_9 : decode cX7_nameHere 9 = .ok (.getfield 66, 3) := dk_180 0 66 (dk_at dksX7_nameHere_0 9 rfl rfl)
theorem dX7_nameHere_12 : decode cX7_nameHere 12 = .ok (.iconst 1, 1) := dk_4 (dk_at dksX7_nameHere_0 12 rfl rfl)
theorem dX7_nameHere_13 : decode cX7_nameHere 13 = .ok (.if_icmp .ne 105, 3) := dk_160 0 105 (dk_at dksX7_nameHere_0 13 rfl rfl)
theorem dX7_nameHere_16 : decode cX7_nameHere 16 = .ok (.aload_n 0, 1) := dk_42 (dk_at dksX7_nameHere_0 16 rfl rfl)
theorem dX7_nameHere_17 : decode cX7_nameHere 17 = .ok (.getfield 69, 3) := dk_180 0 69 (dk_at dksX7_nameHere_0 17 rfl rfl)
theorem dX7_nameHere_20 : decode cX7_nameHere 20 = .ok (.aload_n 0, 1) := dk_42 (dk_at dksX7_nameHere_0 20 rfl rfl)
theorem dX7_nameHere_21 : decode cX7_nameHere 21 = .ok (.getfield 60, 3) := dk_180 0 60 (dk_at dksX7_nameHere_0 21 rfl rfl)
theorem dX7_nameHere_24 : decode cX7_nameHere 24 = .ok (.isub, 1) := dk_100 (dk_at dksX7_nameHere_1 0 rfl rfl)
theorem dX7_nameHere_25 : decode cX7_nameHere 25 = .ok (.aload_n 0, 1) := dk_42 (dk_at dksX7_nameHere_1 1 rfl rfl)
theorem dX7_nameHere_26 : decode cX7_nameHere 26 = .ok (.getfield 19, 3) := dk_180 0 19 (dk_at dksX7_nameHere_1 2 rfl rfl)
theorem dX7_nameHere_29 : decode cX7_nameHere 29 = .ok (.iload_n 1, 1) := dk_27 (dk_at dksX7_nameHere_1 5 rfl rfl)
theorem dX7_nameHere_30 : decode cX7_nameHere 30 = .ok (.iconst 1, 1) := dk_4 (dk_at dksX7_nameHere_1 6 rfl rfl)
theorem dX7_nameHere_31 : decode cX7_nameHere 31 = .ok (.iadd, 1) := dk_96 (dk_at dksX7_nameHere_1 7 rfl rfl)
theorem dX7_nameHere_32 : decode cX7_nameHere 32 = .ok (.iaload, 1) := dk_46 (dk_at dksX7_nameHere_1 8 rfl rfl)
theorem dX7_nameHere_33 : decode cX7_nameHere 33 = .ok (.aload_n 0, 1) := dk_42 (dk_at dksX7_nameHere_1 9 rfl rfl)
theorem dX7_nameHere_34 : decode cX7_nameHere 34 = .ok (.getfield 19, 3) := dk_180 0 19 (dk_at dksX7_nameHere_1 10 rfl rfl)
theorem dX7_nameHere_37 : decode cX7_nameHere 37 = .ok (.iload_n 1, 1) := dk_27 (dk_at dksX7_nameHere_1 13 rfl rfl)
theorem dX7_nameHere_38 : decode cX7_nameHere 38 = .ok (.iaload, 1) := dk_46 (dk_at dksX7_nameHere_1 14 rfl rfl)
theorem dX7_nameHere_39 : decode cX7_nameHere 39 = .ok (.isub, 1) := dk_100 (dk_at dksX7_nameHere_1 15 rfl rfl)
theorem dX7_nameHere_40 : decode cX7_nameHere 40 = .ok (.if_icmp .ne 7, 3) := dk_160 0 7 (dk_at dksX7_nameHere_1 16 rfl rfl)
theorem dX7_nameHere_43 : decode cX7_nameHere 43 = .ok (.iconst 1, 1) := dk_4 (dk_at dksX7_nameHere_1 19 rfl rfl)
theorem dX7_nameHere_44 : decode cX7_nameHere 44 = .ok (.goto 4, 3) := dk_167 0 4 (dk_at dksX7_nameHere_1 20 rfl rfl)
theorem dX7_nameHere_47 : decode cX7_nameHere 47 = .ok (.iconst 0, 1) := dk_3 (dk_at dksX7_nameHere_1 23 rfl rfl)
theorem dX7_nameHere_48 : decode cX7_nameHere 48 = .ok (.istore_n 2, 1) := dk_61 (dk_at dksX7_nameHere_2 0 rfl rfl)
theorem dX7_nameHere_49 : decode cX7_nameHere 49 = .ok (.iconst 0, 1) := dk_3 (dk_at dksX7_nameHere_2 1 rfl rfl)
theorem dX7_nameHere_50 : decode cX7_nameHere 50 = .ok (.istore_n 3, 1) := dk_62 (dk_at dksX7_nameHere_2 2 rfl rfl)
theorem dX7_nameHere_51 : decode cX7_nameHere 51 = .ok (.iload_n 2, 1) := dk_28 (dk_at dksX7_nameHere_2 3 rfl rfl)
theorem dX7_nameHere_52 : decode cX7_nameHere 52 = .ok (.ifCond .eq 54, 3) := dk_153 0 54 (dk_at dksX7_nameHere_2 4 rfl rfl)
theorem dX7_nameHere_55 : decode cX7_nameHere 55 = .ok (.iload_n 3, 1) := dk_29 (dk_at dksX7_nameHere_2 7 rfl rfl)
theorem dX7_nameHere_56 : decode cX7_nameHere 56 = .ok (.aload_n 0, 1) := dk_42 (dk_at dksX7_nameHere_2 8 rfl rfl)
theorem dX7_nameHere_57 : decode cX7_nameHere 57 = .ok (.getfield 69, 3) := dk_180 0 69 (dk_at dksX7_nameHere_2 9 rfl rfl)
theorem dX7_nameHere_60 : decode cX7_nameHere 60 = .ok (.aload_n 0, 1) := dk_42 (dk_at dksX7_nameHere_2 12 rfl rfl)
theorem dX7_nameHere_61 : decode cX7_nameHere 61 = .ok (.getfield 60, 3) := dk_180 0 60 (dk_at dksX7_nameHere_2 13 rfl rfl)
theorem dX7_nameHere_64 : decode cX7_nameHere 64 = .ok (.isub, 1) := dk_100 (dk_at dksX7_nameHere_2 16 rfl rfl)
theorem dX7_nameHere_65 : decode cX7_nameHere 65 = .ok (.if_icmp .ge 41, 3) := dk_162 0 41 (dk_at dksX7_nameHere_2 17 rfl rfl)
theorem dX7_nameHere_68 : decode cX7_nameHere 68 = .ok (.aload_n 0, 1) := dk_42 (dk_at dksX7_nameHere_2 20 rfl rfl)
theorem dX7_nameHere_69 : decode cX7_nameHere 69 = .ok (.aload_n 0, 1) := dk_42 (dk_at dksX7_nameHere_2 21 rfl rfl)
theorem dX7_nameHere_70 : decode cX7_nameHere 70 = .ok (.getfield 60, 3) := dk_180 0 60 (dk_at dksX7_nameHere_3 0 rfl rfl)
theorem dX7_nameHere_73 : decode cX7_nameHere 73 = .ok (.iload_n 3, 1) := dk_29 (dk_at dksX7_nameHere_3 3 rfl rfl)
theorem dX7_nameHere_74 : decode cX7_nameHere 74 = .ok (.iadd, 1) := dk_96 (dk_at dksX7_nameHere_3 4 rfl rfl)
theorem dX7_nameHere_75 : decode cX7_nameHere 75 = .ok (.invokevirtual 72, 3) := dk_182 0 72 (dk_at dksX7_nameHere_3 5 rfl rfl)
theorem dX7_nameHere_78 : decode cX7_nameHere 78 = .ok (.aload_n 0, 1) := dk_42 (dk_at dksX7_nameHere_3 8 rfl rfl)
theorem dX7_nameHere_79 : decode cX7_nameHere 79 = .ok (.getfield 22, 3) := dk_180 0 22 (dk_at dksX7_nameHere_3 9 rfl rfl)
theorem dX7_nameHere_82 : decode cX7_nameHere 82 = .ok (.aload_n 0, 1) := dk_42 (dk_at dksX7_nameHere_3 12 rfl rfl)
theorem dX7_nameHere_83 : decode cX7_nameHere 83 = .ok (.getfield 19, 3) := dk_180 0 19 (dk_at dksX7_nameHere_3 13 rfl rfl)
theorem dX7_nameHere_86 : decode cX7_nameHere 86 = .ok (.iload_n 1, 1) := dk_27 (dk_at dksX7_nameHere_3 16 rfl rfl)
theorem dX7_nameHere_87 : decode cX7_nameHere 87 = .ok (.iaload, 1) := dk_46 (dk_at dksX7_nameHere_3 17 rfl rfl)
theorem dX7_nameHere_88 : decode cX7_nameHere 88 = .ok (.iload_n 3, 1) := dk_29 (dk_at dksX7_nameHere_3 18 rfl rfl)
theorem dX7_nameHere_89 : decode cX7_nameHere 89 = .ok (.iadd, 1) := dk_96 (dk_at dksX7_nameHere_3 19 rfl rfl)
theorem dX7_nameHere_90 : decode cX7_nameHere 90 = .ok (.iaload, 1) := dk_46 (dk_at dksX7_nameHere_3 20 rfl rfl)
theorem dX7_nameHere_91 : decode cX7_nameHere 91 = .ok (.if_icmp .ne 7, 3) := dk_160 0 7 (dk_at dksX7_nameHere_3 21 rfl rfl)
theorem dX7_nameHere_94 : decode cX7_nameHere 94 = .ok (.iconst 1, 1) := dk_4 (dk_at dksX7_nameHere_4 0 rfl rfl)
theorem dX7_nameHere_95 : decode cX7_nameHere 95 = .ok (.goto 4, 3) := dk_167 0 4 (dk_at dksX7_nameHere_4 1 rfl rfl)
theorem dX7_nameHere_98 : decode cX7_nameHere 98 = .ok (.iconst 0, 1) := dk_3 (dk_at dksX7_nameHere_4 4 rfl rfl)
theorem dX7_nameHere_99 : decode cX7_nameHere 99 = .ok (.istore_n 2, 1) := dk_61 (dk_at dksX7_nameHere_4 5 rfl rfl)
theorem dX7_nameHere_100 : decode cX7_nameHere 100 = .ok (.iinc 3 1, 3) := dk_132 3 1 (dk_at dksX7_nameHere_4 6 rfl rfl)
theorem dX7_nameHere_103 : decode cX7_nameHere 103 = .ok (.goto (-52), 3) := dk_167 255 204 (dk_at dksX7_nameHere_4 9 rfl rfl)
theorem dX7_nameHere_106 : decode cX7_nameHere 106 = .ok (.iload_n 2, 1) := dk_28 (dk_at dksX7_nameHere_4 12 rfl rfl)
theorem dX7_nameHere_107 : decode cX7_nameHere 107 = .ok (.ifCond .eq 5, 3) := dk_153 0 5 (dk_at dksX7_nameHere_4 13 rfl rfl)
theorem dX7_nameHere_110 : decode cX7_nameHere 110 = .ok (.iload_n 1, 1) := dk_27 (dk_at dksX7_nameHere_4 16 rfl rfl)
theorem dX7_nameHere_111 : decode cX7_nameHere 111 = .ok (.ireturn, 1) := dk_172 (dk_at dksX7_nameHere_4 17 rfl rfl)
theorem dX7_nameHere_112 : decode cX7_nameHere 112 = .ok (.iinc 1 1, 3) := dk_132 1 1 (dk_at dksX7_nameHere_4 18 rfl rfl)
theorem dX7_nameHere_115 : decode cX7_nameHere 115 = .ok (.goto (-113), 3) := dk_167 255 143 (dk_at dksX7_nameHere_4 21 rfl rfl)
theorem dX7_nameHere_118 : decode cX7_nameHere 118 = .ok (.bipush (-4), 2) := dk_16 252 (dk_at dksX7_nameHere_5 0 rfl rfl)
theorem dX7_nameHere_120 : decode cX7_nameHere 120 = .ok (.ireturn, 1) := dk_172 (dk_at dksX7_nameHere_5 2 rfl rfl)
abbrev cX7_isFull : ByteArray := prog_11_method_14_code
def yX7_isFull : MethodName := ⟨RX7, "isFull", "(I)Z"⟩
def dkwX7_isFull_3 : List UInt8 := [180, 0, 13, 16, 40, 46, 16, 6, 160, 0, 7, 4, 167, 0, 4, 3, 172]
abbrev dktX7_isFull_3 : List UInt8 := dkwX7_isFull_3 ++ []
def dkwX7_isFull_2 : List UInt8 := [8, 160, 0, 22, 42, 180, 0, 13, 16, 39, 46, 7, 160, 0, 7, 4, 167, 0, 24, 3, 167, 0, 20, 42]
abbrev dktX7_isFull_2 : List UInt8 := dkwX7_isFull_2 ++ dktX7_isFull_3
def dkwX7_isFull_1 : List UInt8 := [160, 0, 23, 42, 180, 0, 13, 16, 38, 46, 16, 7, 160, 0, 7, 4, 167, 0, 48, 3, 167, 0, 44, 27]
abbrev dktX7_isFull_1 : List UInt8 := dkwX7_isFull_1 ++ dktX7_isFull_2
def dkwX7_isFull_0 : List UInt8 := [27, 6, 163, 0, 19, 42, 180, 0, 102, 7, 160, 0, 7, 4, 167, 0, 73, 3, 167, 0, 69, 27, 7]
abbrev dktX7_isFull_0 : List UInt8 := dkwX7_isFull_0 ++ dktX7_isFull_1
theorem dksX7_isFull_0 : cX7_isFull.data.toList.drop 0 = dktX7_isFull_0 := by decide +kernel
theorem dksX7_isFull_1 : cX7_isFull.data.toList.drop 23 = dktX7_isFull_1 := dk_seg dksX7_isFull_0 23 rfl rfl
theorem dksX7_isFull_2 : cX7_isFull.data.toList.drop 47 = dktX7_isFull_2 := dk_seg dksX7_isFull_1 24 rfl rfl
theorem dksX7_isFull_3 : cX7_isFull.data.toList.drop 71 = dktX7_isFull_3 := dk_seg dksX7_isFull_2 24 rfl rfl
theorem dX7_isFull_0 : decode cX7_isFull 0 = .ok (.iload_n 1, 1) := dk_27 (dk_at dksX7_isFull_0 0 rfl rfl)
theorem dX7_isFull_1 : decode cX7_isFull 1 = .ok (.iconst 3, 1) := dk_6 (dk_at dksX7_isFull_0 1 rfl rfl)
theorem dX7_isFull_2 : decode cX7_isFull 2 = .ok (.if_icmp .gt 19, 3) := dk_163 0 19 (dk_at dksX7_isFull_0 2 rfl rfl)
theorem dX7_isFull_5 : decode cX7_isFull 5 = .ok (.aload_n 0, 1) := dk_42 (dk_at dksX7_isFull_0 5 rfl rfl)
theorem dX7_isFull_6 : decode cX7_isFull 6 = .ok (.getfield 102, 3) := dk_180 0 102 (dk_at dksX7_isFull_0 6 rfl rfl)
theorem dX7_isFull_9 : decode cX7_isFull 9 = .ok (.iconst 4, 1) := dk_7 (dk_at dksX7_isFull_0 9 rfl rfl)
theorem dX7_isFull_10 : decode cX7_isFull 10 = .ok (.if_icmp .ne 7, 3) := dk_160 0 7 (dk_at dksX7_isFull_0 10 rfl rfl)
theorem dX7_isFull_13 : decode cX7_isFull 13 = .ok (.iconst 1, 1) := dk_4 (dk_at dksX7_isFull_0 13 rfl rfl)
theorem dX7_isFull_14 : decode cX7_isFull 14 = .ok (.goto 73, 3) := dk_167 0 73 (dk_at dksX7_isFull_0 14 rfl rfl)
theorem dX7_isFull_17 : decode cX7_isFull 17 = .ok (.iconst 0, 1) := dk_3 (dk_at dksX7_isFull_0 17 rfl rfl)
theorem dX7_isFull_18 : decode cX7_isFull 18 = .ok (.goto 69, 3) := dk_167 0 69 (dk_at dksX7_isFull_0 18 rfl rfl)
theorem dX7_isFull_21 : decode cX7_isFull 21 = .ok (.iload_n 1, 1) := dk_27 (dk_at dksX7_isFull_0 21 rfl rfl)
theorem dX7_isFull_22 : decode cX7_isFull 22 = .ok (.iconst 4, 1) := dk_7 (dk_at dksX7_isFull_0 22 rfl rfl)
theorem dX7_isFull_23 : decode cX7_isFull 23 = .ok (.if_icmp .ne 23, 3) := dk_160 0 23 (dk_at dksX7_isFull_1 0 rfl rfl)
theorem dX7_isFull_26 : decode cX7_isFull 26 = .ok (.aload_n 0, 1) := dk_42 (dk_at dksX7_isFull_1 3 rfl rfl)
theorem dX7_isFull_27 : decode cX7_isFull 27 = .ok (.getfield 13, 3) := dk_180 0 13 (dk_at dksX7_isFull_1 4 rfl rfl)
theorem dX7_isFull_30 : decode cX7_isFull 30 = .ok (.bipush 38, 2) := dk_16 38 (dk_at dksX7_isFull_1 7 rfl rfl)
theorem dX7_isFull_32 : decode cX7_isFull 32 = .ok (.iaload, 1) := dk_46 (dk_at dksX7_isFull_1 9 rfl rfl)
theorem dX7_isFull_33 : decode cX7_isFull 33 = .ok (.bipush 7, 2) := dk_16 7 (dk_at dksX7_isFull_1 10 rfl rfl)
theorem dX7_isFull_35 : decode cX7_isFull 35 = .ok (.if_icmp .ne 7, 3) := dk_160 0 7 (dk_at dksX7_isFull_1 12 rfl rfl)
theorem dX7_isFull_38 : decode cX7_isFull 38 = .ok (.iconst 1, 1) := dk_4 (dk_at dksX7_isFull_1 15 rfl rfl)
theorem dX7_isFull_39 : decode cX7_isFull 39 = .ok (.goto 48, 3) := dk_167 0 48 (dk_at dksX7_isFull_1 16 rfl rfl)
theorem dX7_isFull_42 : decode cX7_isFull 42 = .ok (.iconst 0, 1) := dk_3 (dk_at dksX7_isFull_1 19 rfl rfl)
theorem dX7_isFull_43 : decode cX7_isFull 43 = .ok (.goto 44, 3) := dk_167 0 44 (dk_at dksX7_isFull_1 20 rfl rfl)
theorem dX7_isFull_46 : decode cX7_isFull 46 = .ok (.iload_n 1, 1) := dk_27 (dk_at dksX7_isFull_1 23 rfl rfl)
theorem dX7_isFull_47 : decode cX7_isFull 47 = .ok (.iconst 5, 1) := dk_8 (dk_at dksX7_isFull_2 0 rfl rfl)
theorem dX7_isFull_48 : decode cX7_isFull 48 = .ok (.if_icmp .ne 22, 3) := dk_160 0 22 (dk_at dksX7_isFull_2 1 rfl rfl)
theorem dX7_isFull_51 : decode cX7_isFull 51 = .ok (.aload_n 0, 1) := dk_42 (dk_at dksX7_isFull_2 4 rfl rfl)
theorem dX7_isFull_52 : decode cX7_isFull 52 = .ok (.getfield 13, 3) := dk_180 0 13 (dk_at dksX7_isFull_2 5 rfl rfl)
theorem dX7_isFull_55 : decode cX7_isFull 55 = .ok (.bipush 39, 2) := dk_16 39 (dk_at dksX7_isFull_2 8 rfl rfl)
theorem dX7_isFull_57 : decode cX7_isFull 57 = .ok (.iaload, 1) := dk_46 (dk_at dksX7_isFull_2 10 rfl rfl)
theorem dX7_isFull_58 : decode cX7_isFull 58 = .ok (.iconst 4, 1) := dk_7 (dk_at dksX7_isFull_2 11 rfl rfl)
theorem dX7_isFull_59 : decode cX7_isFull 59 = .ok (.if_icmp .ne 7, 3) := dk_160 0 7 (dk_at dksX7_isFull_2 12 rfl rfl)
theorem dX7_isFull_62 : decode cX7_isFull 62 = .ok (.iconst 1, 1) := dk_4 (dk_at dksX7_isFull_2 15 rfl rfl)
theorem dX7_isFull_63 : decode cX7_isFull 63 = .ok (.goto 24, 3) := dk_167 0 24 (dk_at dksX7_isFull_2 16 rfl rfl)
theorem dX7_isFull_66 : decode cX7_isFull 66 = .ok (.iconst 0, 1) := dk_3 (dk_at dksX7_isFull_2 19 rfl rfl)
theorem dX7_isFull_67 : decode cX7_isFull 67 = .ok (.goto 20, 3) := dk_167 0 20 (dk_at dksX7_isFull_2 20 rfl rfl)
theorem dX7_isFull_70 : decode cX7_isFull 70 = .ok (.aload_n 0, 1) := dk_42 (dk_at dksX7_isFull_2 23 rfl rfl)
theorem dX7_isFull_71 : decode cX7_isFull 71 = .ok (.getfield 13, 3) := dk_180 0 13 (dk_at dksX7_isFull_3 0 rfl rfl)
theorem dX7_isFull_74 : decode cX7_isFull 74 = .ok (.bipush 40, 2) := dk_16 40 (dk_at dksX7_isFull_3 3 rfl rfl)
theorem dX7_isFull_76 : decode cX7_isFull 76 = .ok (.iaload, 1) := dk_46 (dk_at dksX7_isFull_3 5 rfl rfl)
theorem dX7_isFull_77 : decode cX7_isFull 77 = .ok (.bipush 6, 2) := dk_16 6 (dk_at dksX7_isFull_3 6 rfl rfl)
theorem dX7_isFull_79 : decode cX7_isFull 79 = .ok (.if_icmp .ne 7, 3) := dk_160 0 7 (dk_at dksX7_isFull_3 8 rfl rfl)
theorem dX7_isFull_82 : decode cX7_isFull 82 = .ok (.iconst 1, 1) := dk_4 (dk_at dksX7_isFull_3 11 rfl rfl)
theorem dX7_isFull_83 : decode cX7_isFull 83 = .ok (.goto 4, 3) := dk_167 0 4 (dk_at dksX7_isFull_3 12 rfl rfl)
theorem dX7_isFull_86 : decode cX7_isFull 86 = .ok (.iconst 0, 1) := dk_3 (dk_at dksX7_isFull_3 15 rfl rfl)
theorem dX7_isFull_87 : decode cX7_isFull 87 = .ok (.ireturn, 1) := dk_172 (dk_at dksX7_isFull_3 16 rfl rfl)
abbrev cX7_readMore : ByteArray := prog_11_method_13_code
def yX7_readMore : MethodName := ⟨RX7, "readMore", "(I)V"⟩
def dkwX7_readMore_9 : List UInt8 := [4, 96, 79, 177]
abbrev dktX7_readMore_9 : List UInt8 := dkwX7_readMore_9 ++ []
def dkwX7_readMore_8 : List UInt8 := [42, 180, 0, 13, 16, 32, 28, 96, 42, 3, 16, 7, 182, 0, 98, 79, 42, 180, 0, 13, 16, 40, 92, 46]
abbrev dktX7_readMore_8 : List UInt8 := dkwX7_readMore_8 ++ dktX7_readMore_9
def dkwX7_readMore_7 : List UInt8 := [164, 0, 7, 29, 167, 0, 7, 42, 180, 0, 109, 181, 0, 109, 42, 180, 0, 13, 16, 26, 28, 96, 29, 79]
abbrev dktX7_readMore_7 : List UInt8 := dkwX7_readMore_7 ++ dktX7_readMore_8
def dkwX7_readMore_6 : List UInt8 := [167, 0, 75, 42, 180, 0, 13, 16, 40, 46, 61, 42, 3, 6, 182, 0, 98, 62, 42, 29, 42, 180, 0, 109]
abbrev dktX7_readMore_6 : List UInt8 := dkwX7_readMore_6 ++ dktX7_readMore_7
def dkwX7_readMore_5 : List UInt8 := [180, 0, 13, 16, 39, 46, 96, 42, 182, 0, 105, 79, 42, 180, 0, 13, 16, 39, 92, 46, 4, 96, 79]
abbrev dktX7_readMore_5 : List UInt8 := dkwX7_readMore_5 ++ dktX7_readMore_6
def dkwX7_readMore_4 : List UInt8 := [16, 38, 92, 46, 4, 96, 79, 167, 0, 113, 27, 8, 160, 0, 36, 42, 180, 0, 13, 16, 14, 42]
abbrev dktX7_readMore_4 : List UInt8 := dkwX7_readMore_4 ++ dktX7_readMore_5
def dkwX7_readMore_3 : List UInt8 := [182, 0, 105, 79, 42, 180, 0, 13, 16, 7, 28, 96, 42, 3, 6, 182, 0, 98, 79, 42, 180, 0, 13]
abbrev dktX7_readMore_3 : List UInt8 := dkwX7_readMore_3 ++ dktX7_readMore_4
def dkwX7_readMore_2 : List UInt8 := [167, 0, 165, 27, 7, 160, 0, 50, 42, 180, 0, 13, 16, 38, 46, 61, 42, 180, 0, 13, 28, 42]
abbrev dktX7_readMore_2 : List UInt8 := dkwX7_readMore_2 ++ dktX7_readMore_3
def dkwX7_readMore_1 : List UInt8 := [42, 180, 0, 102, 96, 42, 4, 16, 9, 182, 0, 98, 79, 42, 89, 180, 0, 102, 4, 96, 181, 0, 102]
abbrev dktX7_readMore_1 : List UInt8 := dkwX7_readMore_1 ++ dktX7_readMore_2
def dkwX7_readMore_0 : List UInt8 := [27, 6, 163, 0, 48, 42, 180, 0, 13, 16, 18, 42, 180, 0, 102, 96, 27, 79, 42, 180, 0, 13, 16, 22]
abbrev dktX7_readMore_0 : List UInt8 := dkwX7_readMore_0 ++ dktX7_readMore_1
theorem dksX7_readMore_0 : cX7_readMore.data.toList.drop 0 = dktX7_readMore_0 := by decide +kernel
theorem dksX7_readMore_1 : cX7_readMore.data.toList.drop 24 = dktX7_readMore_1 := dk_seg dksX7_readMore_0 24 rfl rfl
theorem dksX7_readMore_2 : cX7_readMore.data.toList.drop 47 = dktX7_readMore_2 := dk_seg dksX7_readMore_1 23 rfl rfl
theorem dksX7_readMore_3 : cX7_readMore.data.toList.drop 69 = dktX7_readMore_3 := dk_seg dksX7_readMore_2 22 rfl rfl
theorem dksX7_readMore_4 : cX7_readMore.data.toList.drop 92 = dktX7_readMore_4 := dk_seg dksX7_readMore_3 23 rfl rfl
theorem dksX7_readMore_5 : cX7_readMore.data.toList.drop 114 = dktX7_readMore_5 := dk_seg dksX7_readMore_4 22 rfl rfl
theorem dksX7_readMore_6 : cX7_readMore.data.toList.drop 137 = dktX7_readMore_6 := dk_seg dksX7_readMore_5 23 rfl rfl
theorem dksX7_readMore_7 : cX7_readMore.data.toList.drop 161 = dktX7_readMore_7 := dk_seg dksX7_readMore_6 24 rfl rfl
theorem dksX7_readMore_8 : cX7_readMore.data.toList.drop 185 = dktX7_readMore_8 := dk_seg dksX7_readMore_7 24 rfl rfl
theorem dksX7_readMore_9 : cX7_readMore.data.toList.drop 209 = dktX7_readMore_9 := dk_seg dksX7_readMore_8 24 rfl rfl
theorem dX7_readMore_0 : decode cX7_readMore 0 = .ok (.iload_n 1, 1) := dk_27 (dk_at dksX7_readMore_0 0 rfl rfl)
theorem dX7_readMore_1 : decode cX7_readMore 1 = .ok (.iconst 3, 1) := dk_6 (dk_at dksX7_readMore_0 1 rfl rfl)
theorem dX7_readMore_2 : decode cX7_readMore 2 = .ok (.if_icmp .gt 48, 3) := dk_163 0 48 (dk_at dksX7_readMore_0 2 rfl rfl)
theorem dX7_readMore_5 : decode cX7_readMore 5 = .ok (.aload_n 0, 1) := dk_42 (dk_at dksX7_readMore_0 5 rfl rfl)
theorem dX7_readMore_6 : decode cX7_readMore 6 = .ok (.getfield 13, 3) := dk_180 0 13 (dk_at dksX7_readMore_0 6 rfl rfl)
theorem dX7_readMore_9 : decode cX7_readMore 9 = .ok (.bipush 18, 2) := dk_16 18 (dk_at dksX7_readMore_0 9 rfl rfl)
theorem dX7_readMore_11 : decode cX7_readMore 11 = .ok (.aload_n 0, 1) := dk_42 (dk_at dksX7_readMore_0 11 rfl rfl)
theorem dX7_readMore_12 : decode cX7_readMore 12 = .ok (.getfield 102, 3) := dk_180 0 102 (dk_at dksX7_readMore_0 12 rfl rfl)
theorem dX7_readMore_15 : decode cX7_readMore 15 = .ok (.iadd, 1) := dk_96 (dk_at dksX7_readMore_0 15 rfl rfl)
theorem dX7_readMore_16 : decode cX7_readMore 16 = .ok (.iload_n 1, 1) := dk_27 (dk_at dksX7_readMore_0 16 rfl rfl)
theorem dX7_readMore_17 : decode cX7_readMore 17 = .ok (.iastore, 1) := dk_79 (dk_at dksX7_readMore_0 17 rfl rfl)
theorem dX7_readMore_18 : decode cX7_readMore 18 = .ok (.aload_n 0, 1) := dk_42 (dk_at dksX7_readMore_0 18 rfl rfl)
theorem dX7_readMore_19 : decode cX7_readMore 19 = .ok (.getfield 13, 3) := dk_180 0 13 (dk_at dksX7_readMore_0 19 rfl rfl)
theorem dX7_readMore_22 : decode cX7_readMore 22 = .ok (.bipush 22, 2) := dk_16 22 (dk_at dksX7_readMore_0 22 rfl rfl)
theorem dX7_readMore_24 : decode cX7_readMore 24 = .ok (.aload_n 0, 1) := dk_42 (dk_at dksX7_readMore_1 0 rfl rfl)
theorem dX7_readMore_25 : decode cX7_readMore 25 = .ok (.getfield 102, 3) := dk_180 0 102 (dk_at dksX7_readMore_1 1 rfl rfl)
theorem dX7_readMore_28 : decode cX7_readMore 28 = .ok (.iadd, 1) := dk_96 (dk_at dksX7_readMore_1 4 rfl rfl)
theorem dX7_readMore_29 : decode cX7_readMore 29 = .ok (.aload_n 0, 1) := dk_42 (dk_at dksX7_readMore_1 5 rfl rfl)
theorem dX7_readMore_30 : decode cX7_readMore 30 = .ok (.iconst 1, 1) := dk_4 (dk_at dksX7_readMore_1 6 rfl rfl)
theorem dX7_readMore_31 : decode cX7_readMore 31 = .ok (.bipush 9, 2) := dk_16 9 (dk_at dksX7_readMore_1 7 rfl rfl)
theorem dX7_readMore_33 : decode cX7_readMore 33 = .ok (.invokevirtual 98, 3) := dk_182 0 98 (dk_at dksX7_readMore_1 9 rfl rfl)
theorem dX7_readMore_36 : decode cX7_readMore 36 = .ok (.iastore, 1) := dk_79 (dk_at dksX7_readMore_1 12 rfl rfl)
theorem dX7_readMore_37 : decode cX7_readMore 37 = .ok (.aload_n 0, 1) := dk_42 (dk_at dksX7_readMore_1 13 rfl rfl)
theorem dX7_readMore_38 : decode cX7_readMore 38 = .ok (.dup, 1) := dk_89 (dk_at dksX7_readMore_1 14 rfl rfl)
theorem dX7_readMore_39 : decode cX7_readMore 39 = .ok (.getfield 102, 3) := dk_180 0 102 (dk_at dksX7_readMore_1 15 rfl rfl)
theorem dX7_readMore_42 : decode cX7_readMore 42 = .ok (.iconst 1, 1) := dk_4 (dk_at dksX7_readMore_1 18 rfl rfl)
theorem dX7_readMore_43 : decode cX7_readMore 43 = .ok (.iadd, 1) := dk_96 (dk_at dksX7_readMore_1 19 rfl rfl)
theorem dX7_readMore_44 : decode cX7_readMore 44 = .ok (.putfield 102, 3) := dk_181 0 102 (dk_at dksX7_readMore_1 20 rfl rfl)
theorem dX7_readMore_47 : decode cX7_readMore 47 = .ok (.goto 165, 3) := dk_167 0 165 (dk_at dksX7_readMore_2 0 rfl rfl)
theorem dX7_readMore_50 : decode cX7_readMore 50 = .ok (.iload_n 1, 1) := dk_27 (dk_at dksX7_readMore_2 3 rfl rfl)
theorem dX7_readMore_51 : decode cX7_readMore 51 = .ok (.iconst 4, 1) := dk_7 (dk_at dksX7_readMore_2 4 rfl rfl)
theorem dX7_readMore_52 : decode cX7_readMore 52 = .ok (.if_icmp .ne 50, 3) := dk_160 0 50 (dk_at dksX7_readMore_2 5 rfl rfl)
theorem dX7_readMore_55 : decode cX7_readMore 55 = .ok (.aload_n 0, 1) := dk_42 (dk_at dksX7_readMore_2 8 rfl rfl)
theorem dX7_readMore_56 : decode cX7_readMore 56 = .ok (.getfield 13, 3) := dk_180 0 13 (dk_at dksX7_readMore_2 9 rfl rfl)
theorem dX7_readMore_59 : decode cX7_readMore 59 = .ok (.bipush 38, 2) := dk_16 38 (dk_at dksX7_readMore_2 12 rfl rfl)
theorem dX7_readMore_61 : decode cX7_readMore 61 = .ok (.iaload, 1) := dk_46 (dk_at dksX7_readMore_2 14 rfl rfl)
theorem dX7_readMore_62 : decode cX7_readMore 62 = .ok (.istore_n 2, 1) := dk_61 (dk_at dksX7_readMore_2 15 rfl rfl)
theorem dX7_readMore_63 : decode cX7_readMore 63 = .ok (.aload_n 0, 1) := dk_42 (dk_at dksX7_readMore_2 16 rfl rfl)
theorem dX7_readMore_64 : decode cX7_readMore 64 = .ok (.getfield 13, 3) := dk_180 0 13 (dk_at dksX7_readMore_2 17 rfl rfl)
theorem dX7_readMore_67 : decode cX7_readMore 67 = .ok (.iload_n 2, 1) := dk_28 (dk_at dksX7_readMore_2 20 rfl rfl)
theorem dX7_readMore_68 : decode cX7_readMore 68 = .ok (.aload_n 0, 1) := dk_42 (dk_at dksX7_readMore_2 21 rfl rfl)
theorem dX7_readMore_69 : decode cX7_readMore 69 = .ok (.invokevirtual 105, 3) := dk_182 0 105 (dk_at dksX7_readMore_3 0 rfl rfl)
theorem dX7_readMore_72 : decode cX7_readMore 72 = .ok (.iastore, 1) := dk_79 (dk_at dksX7_readMore_3 3 rfl rfl)
theorem dX7_readMore_73 : decode cX7_readMore 73 = .ok (.aload_n 0, 1) := dk_42 (dk_at dksX7_readMore_3 4 rfl rfl)
theorem dX7_readMore_74 : decode cX7_readMore 74 = .ok (.getfield 13, 3) := dk_180 0 13 (dk_at dksX7_readMore_3 5 rfl rfl)
theorem dX7_readMore_77 : decode cX7_readMore 77 = .ok (.bipush 7, 2) := dk_16 7 (dk_at dksX7_readMore_3 8 rfl rfl)
theorem dX7_readMore_79 : decode cX7_readMore 79 = .ok (.iload_n 2, 1) := dk_28 (dk_at dksX7_readMore_3 10 rfl rfl)
theorem dX7_readMore_80 : decode cX7_readMore 80 = .ok (.iadd, 1) := dk_96 (dk_at dksX7_readMore_3 11 rfl rfl)
theorem dX7_readMore_81 : decode cX7_readMore 81 = .ok (.aload_n 0, 1) := dk_42 (dk_at dksX7_readMore_3 12 rfl rfl)
theorem dX7_readMore_82 : decode cX7_readMore 82 = .ok (.iconst 0, 1) := dk_3 (dk_at dksX7_readMore_3 13 rfl rfl)
theorem dX7_readMore_83 : decode cX7_readMore 83 = .ok (.iconst 3, 1) := dk_6 (dk_at dksX7_readMore_3 14 rfl rfl)
theorem dX7_readMore_84 : decode cX7_readMore 84 = .ok (.invokevirtual 98, 3) := dk_182 0 98 (dk_at dksX7_readMore_3 15 rfl rfl)
theorem dX7_readMore_87 : decode cX7_readMore 87 = .ok (.iastore, 1) := dk_79 (dk_at dksX7_readMore_3 18 rfl rfl)
theorem dX7_readMore_88 : decode cX7_readMore 88 = .ok (.aload_n 0, 1) := dk_42 (dk_at dksX7_readMore_3 19 rfl rfl)
theorem dX7_readMore_89 : decode cX7_readMore 89 = .ok (.getfield 13, 3) := dk_180 0 13 (dk_at dksX7_readMore_3 20 rfl rfl)
theorem dX7_readMore_92 : decode cX7_readMore 92 = .ok (.bipush 38, 2) := dk_16 38 (dk_at dksX7_readMore_4 0 rfl rfl)
theorem dX7_readMore_94 : decode cX7_readMore 94 = .ok (.dup2, 1) := dk_92 (dk_at dksX7_readMore_4 2 rfl rfl)
theorem dX7_readMore_95 : decode cX7_readMore 95 = .ok (.iaload, 1) := dk_46 (dk_at dksX7_readMore_4 3 rfl rfl)
theorem dX7_readMore_96 : decode cX7_readMore 96 = .ok (.iconst 1, 1) := dk_4 (dk_at dksX7_readMore_4 4 rfl rfl)
theorem dX7_readMore_97 : decode cX7_readMore 97 = .ok (.iadd, 1) := dk_96 (dk_at dksX7_readMore_4 5 rfl rfl)
theorem dX7_readMore_98 : decode cX7_readMore 98 = .ok (.iastore, 1) := dk_79 (dk_at dksX7_readMore_4 6 rfl rfl)
theorem dX7_readMore_99 : decode cX7_readMore 99 = .ok (.goto 113, 3) := dk_167 0 113 (dk_at dksX7_readMore_4 7 rfl rfl)
theorem dX7_readMore_102 : decode cX7_readMore 102 = .ok (.iload_n 1, 1) := dk_27 (dk_at dksX7_readMore_4 10 rfl rfl)
theorem dX7_readMore_103 : decode cX7_readMore 103 = .ok (.iconst 5, 1) := dk_8 (dk_at dksX7_readMore_4 11 rfl rfl)
theorem dX7_readMore_104 : decode cX7_readMore 104 = .ok (.if_icmp .ne 36, 3) := dk_160 0 36 (dk_at dksX7_readMore_4 12 rfl rfl)
theorem dX7_readMore_107 : decode cX7_readMore 107 = .ok (.aload_n 0, 1) := dk_42 (dk_at dksX7_readMore_4 15 rfl rfl)
theorem dX7_readMore_108 : decode cX7_readMore 108 = .ok (.getfield 13, 3) := dk_180 0 13 (dk_at dksX7_readMore_4 16 rfl rfl)
theorem dX7_readMore_111 : decode cX7_readMore 111 = .ok (.bipush 14, 2) := dk_16 14 (dk_at dksX7_readMore_4 19 rfl rfl)
theorem dX7_readMore_113 : decode cX7_readMore 113 = .ok (.aload_n 0, 1) := dk_42 (dk_at dksX7_readMore_4 21 rfl rfl)
theorem dX7_readMore_114 : decode cX7_readMore 114 = .ok (.getfield 13, 3) := dk_180 0 13 (dk_at dksX7_readMore_5 0 rfl rfl)
theorem dX7_readMore_117 : decode cX7_readMore 117 = .ok (.bipush 39, 2) := dk_16 39 (dk_at dksX7_readMore_5 3 rfl rfl)
theorem dX7_readMore_119 : decode cX7_readMore 119 = .ok (.iaload, 1) := dk_46 (dk_at dksX7_readMore_5 5 rfl rfl)
theorem dX7_readMore_120 : decode cX7_readMore 120 = .ok (.iadd, 1) := dk_96 (dk_at dksX7_readMore_5 6 rfl rfl)
theorem dX7_readMore_121 : decode cX7_readMore 121 = .ok (.aload_n 0, 1) := dk_42 (dk_at dksX7_readMore_5 7 rfl rfl)
theorem dX7_readMore_122 : decode cX7_readMore 122 = .ok (.invokevirtual 105, 3) := dk_182 0 105 (dk_at dksX7_readMore_5 8 rfl rfl)
theorem dX7_readMore_125 : decode cX7_readMore 125 = .ok (.iastore, 1) := dk_79 (dk_at dksX7_readMore_5 11 rfl rfl)
theorem dX7_readMore_126 : decode cX7_readMore 126 = .ok (.aload_n 0, 1) := dk_42 (dk_at dksX7_readMore_5 12 rfl rfl)
theorem dX7_readMore_127 : decode cX7_readMore 127 = .ok (.getfield 13, 3) := dk_180 0 13 (dk_at dksX7_readMore_5 13 rfl rfl)
theorem dX7_readMore_130 : decode cX7_readMore 130 = .ok (.bipush 39, 2) := dk_16 39 (dk_at dksX7_readMore_5 16 rfl rfl)
theorem dX7_readMore_132 : decode cX7_readMore 132 = .ok (.dup2, 1) := dk_92 (dk_at dksX7_readMore_5 18 rfl rfl)
theorem dX7_readMore_133 : decode cX7_readMore 133 = .ok (.iaload, 1) := dk_46 (dk_at dksX7_readMore_5 19 rfl rfl)
theorem dX7_readMore_134 : decode cX7_readMore 134 = .ok (.iconst 1, 1) := dk_4 (dk_at dksX7_readMore_5 20 rfl rfl)
theorem dX7_readMore_135 : decode cX7_readMore 135 = .ok (.iadd, 1) := dk_96 (dk_at dksX7_readMore_5 21 rfl rfl)
theorem dX7_readMore_136 : decode cX7_readMore 136 = .ok (.iastore, 1) := dk_79 (dk_at dksX7_readMore_5 22 rfl rfl)
theorem dX7_readMore_137 : decode cX7_readMore 137 = .ok (.goto 75, 3) := dk_167 0 75 (dk_at dksX7_readMore_6 0 rfl rfl)
theorem dX7_readMore_140 : decode cX7_readMore 140 = .ok (.aload_n 0, 1) := dk_42 (dk_at dksX7_readMore_6 3 rfl rfl)
theorem dX7_readMore_141 : decode cX7_readMore 141 = .ok (.getfield 13, 3) := dk_180 0 13 (dk_at dksX7_readMore_6 4 rfl rfl)
theorem dX7_readMore_144 : decode cX7_readMore 144 = .ok (.bipush 40, 2) := dk_16 40 (dk_at dksX7_readMore_6 7 rfl rfl)
theorem dX7_readMore_146 : decode cX7_readMore 146 = .ok (.iaload, 1) := dk_46 (dk_at dksX7_readMore_6 9 rfl rfl)
theorem dX7_readMore_147 : decode cX7_readMore 147 = .ok (.istore_n 2, 1) := dk_61 (dk_at dksX7_readMore_6 10 rfl rfl)
theorem dX7_readMore_148 : decode cX7_readMore 148 = .ok (.aload_n 0, 1) := dk_42 (dk_at dksX7_readMore_6 11 rfl rfl)
theorem dX7_readMore_149 : decode cX7_readMore 149 = .ok (.iconst 0, 1) := dk_3 (dk_at dksX7_readMore_6 12 rfl rfl)
theorem dX7_readMore_150 : decode cX7_readMore 150 = .ok (.iconst 3, 1) := dk_6 (dk_at dksX7_readMore_6 13 rfl rfl)
theorem dX7_readMore_151 : decode cX7_readMore 151 = .ok (.invokevirtual 98, 3) := dk_182 0 98 (dk_at dksX7_readMore_6 14 rfl rfl)
theorem dX7_readMore_154 : decode cX7_readMore 154 = .ok (.istore_n 3, 1) := dk_62 (dk_at dksX7_readMore_6 17 rfl rfl)
theorem dX7_readMore_155 : decode cX7_readMore 155 = .ok (.aload_n 0, 1) := dk_42 (dk_at dksX7_readMore_6 18 rfl rfl)
theorem dX7_readMore_156 : decode cX7_readMore 156 = .ok (.iload_n 3, 1) := dk_29 (dk_at dksX7_readMore_6 19 rfl rfl)
theorem dX7_readMore_157 : decode cX7_readMore 157 = .ok (.aload_n 0, 1) := dk_42 (dk_at dksX7_readMore_6 20 rfl rfl)
theorem dX7_readMore_158 : decode cX7_readMore 158 = .ok (.getfield 109, 3) := dk_180 0 109 (dk_at dksX7_readMore_6 21 rfl rfl)
theorem dX7_readMore_161 : decode cX7_readMore 161 = .ok (.if_icmp .le 7, 3) := dk_164 0 7 (dk_at dksX7_readMore_7 0 rfl rfl)
theorem dX7_readMore_164 : decode cX7_readMore 164 = .ok (.iload_n 3, 1) := dk_29 (dk_at dksX7_readMore_7 3 rfl rfl)
theorem dX7_readMore_165 : decode cX7_readMore 165 = .ok (.goto 7, 3) := dk_167 0 7 (dk_at dksX7_readMore_7 4 rfl rfl)
theorem dX7_readMore_168 : decode cX7_readMore 168 = .ok (.aload_n 0, 1) := dk_42 (dk_at dksX7_readMore_7 7 rfl rfl)
theorem dX7_readMore_169 : decode cX7_readMore 169 = .ok (.getfield 109, 3) := dk_180 0 109 (dk_at dksX7_readMore_7 8 rfl rfl)
theorem dX7_readMore_172 : decode cX7_readMore 172 = .ok (.putfield 109, 3) := dk_181 0 109 (dk_at dksX7_readMore_7 11 rfl rfl)
theorem dX7_readMore_175 : decode cX7_readMore 175 = .ok (.aload_n 0, 1) := dk_42 (dk_at dksX7_readMore_7 14 rfl rfl)
theorem dX7_readMore_176 : decode cX7_readMore 176 = .ok (.getfield 13, 3) := dk_180 0 13 (dk_at dksX7_readMore_7 15 rfl rfl)
theorem dX7_readMore_179 : decode cX7_readMore 179 = .ok (.bipush 26, 2) := dk_16 26 (dk_at dksX7_readMore_7 18 rfl rfl)
theorem dX7_readMore_181 : decode cX7_readMore 181 = .ok (.iload_n 2, 1) := dk_28 (dk_at dksX7_readMore_7 20 rfl rfl)
theorem dX7_readMore_182 : decode cX7_readMore 182 = .ok (.iadd, 1) := dk_96 (dk_at dksX7_readMore_7 21 rfl rfl)
theorem dX7_readMore_183 : decode cX7_readMore 183 = .ok (.iload_n 3, 1) := dk_29 (dk_at dksX7_readMore_7 22 rfl rfl)
theorem dX7_readMore_184 : decode cX7_readMore 184 = .ok (.iastore, 1) := dk_79 (dk_at dksX7_readMore_7 23 rfl rfl)
theorem dX7_readMore_185 : decode cX7_readMore 185 = .ok (.aload_n 0, 1) := dk_42 (dk_at dksX7_readMore_8 0 rfl rfl)
theorem dX7_readMore_186 : decode cX7_readMore 186 = .ok (.getfield 13, 3) := dk_180 0 13 (dk_at dksX7_readMore_8 1 rfl rfl)
theorem dX7_readMore_189 : decode cX7_readMore 189 = .ok (.bipush 32, 2) := dk_16 32 (dk_at dksX7_readMore_8 4 rfl rfl)
theorem dX7_readMore_191 : decode cX7_readMore 191 = .ok (.iload_n 2, 1) := dk_28 (dk_at dksX7_readMore_8 6 rfl rfl)
theorem dX7_readMore_192 : decode cX7_readMore 192 = .ok (.iadd, 1) := dk_96 (dk_at dksX7_readMore_8 7 rfl rfl)
theorem dX7_readMore_193 : decode cX7_readMore 193 = .ok (.aload_n 0, 1) := dk_42 (dk_at dksX7_readMore_8 8 rfl rfl)
theorem dX7_readMore_194 : decode cX7_readMore 194 = .ok (.iconst 0, 1) := dk_3 (dk_at dksX7_readMore_8 9 rfl rfl)
theorem dX7_readMore_195 : decode cX7_readMore 195 = .ok (.bipush 7, 2) := dk_16 7 (dk_at dksX7_readMore_8 10 rfl rfl)
theorem dX7_readMore_197 : decode cX7_readMore 197 = .ok (.invokevirtual 98, 3) := dk_182 0 98 (dk_at dksX7_readMore_8 12 rfl rfl)
theorem dX7_readMore_200 : decode cX7_readMore 200 = .ok (.iastore, 1) := dk_79 (dk_at dksX7_readMore_8 15 rfl rfl)
theorem dX7_readMore_201 : decode cX7_readMore 201 = .ok (.aload_n 0, 1) := dk_42 (dk_at dksX7_readMore_8 16 rfl rfl)
theorem dX7_readMore_202 : decode cX7_readMore 202 = .ok (.getfield 13, 3) := dk_180 0 13 (dk_at dksX7_readMore_8 17 rfl rfl)
theorem dX7_readMore_205 : decode cX7_readMore 205 = .ok (.bipush 40, 2) := dk_16 40 (dk_at dksX7_readMore_8 20 rfl rfl)
theorem dX7_readMore_207 : decode cX7_readMore 207 = .ok (.dup2, 1) := dk_92 (dk_at dksX7_readMore_8 22 rfl rfl)
theorem dX7_readMore_208 : decode cX7_readMore 208 = .ok (.iaload, 1) := dk_46 (dk_at dksX7_readMore_8 23 rfl rfl)
theorem dX7_readMore_209 : decode cX7_readMore 209 = .ok (.iconst 1, 1) := dk_4 (dk_at dksX7_readMore_9 0 rfl rfl)
theorem dX7_readMore_210 : decode cX7_readMore 210 = .ok (.iadd, 1) := dk_96 (dk_at dksX7_readMore_9 1 rfl rfl)
theorem dX7_readMore_211 : decode cX7_readMore 211 = .ok (.iastore, 1) := dk_79 (dk_at dksX7_readMore_9 2 rfl rfl)
theorem dX7_readMore_212 : decode cX7_readMore 212 = .ok (.return_, 1) := dk_177 (dk_at dksX7_readMore_9 3 rfl rfl)
abbrev cX7_number : ByteArray := prog_11_method_10_code
def yX7_number : MethodName := ⟨RX7, "number", "(II)I"⟩
def dkwX7_number_2 : List UInt8 := [180, 0, 57, 154, 0, 10, 42, 180, 0, 76, 167, 0, 4, 27, 62, 42, 182, 0, 91, 29, 172]
abbrev dktX7_number_2 : List UInt8 := dkwX7_number_2 ++ []
def dkwX7_number_1 : List UInt8 := [154, 0, 23, 42, 180, 0, 76, 133, 27, 133, 28, 133, 184, 0, 49, 154, 0, 8, 42, 6, 182, 0, 87, 42]
abbrev dktX7_number_1 : List UInt8 := dkwX7_number_1 ++ dktX7_number_2
def dkwX7_number_0 : List UInt8 := [42, 180, 0, 57, 154, 0, 16, 42, 180, 0, 66, 5, 159, 0, 8, 42, 5, 182, 0, 87, 42, 180, 0, 57]
abbrev dktX7_number_0 : List UInt8 := dkwX7_number_0 ++ dktX7_number_1
theorem dksX7_number_0 : cX7_number.data.toList.drop 0 = dktX7_number_0 := by decide +kernel
theorem dksX7_number_1 : cX7_number.data.toList.drop 24 = dktX7_number_1 := dk_seg dksX7_number_0 24 rfl rfl
theorem dksX7_number_2 : cX7_number.data.toList.drop 48 = dktX7_number_2 := dk_seg dksX7_number_1 24 rfl rfl
theorem dX7_number_0 : decode cX7_number 0 = .ok (.aload_n 0, 1) := dk_42 (dk_at dksX7_number_0 0 rfl rfl)
theorem dX7_number_1 : decode cX7_number 1 = .ok (.getfield 57, 3) := dk_180 0 57 (dk_at dksX7_number_0 1 rfl rfl)
theorem dX7_number_4 : decode cX7_number 4 = .ok (.ifCond .ne 16, 3) := dk_154 0 16 (dk_at dksX7_number_0 4 rfl rfl)
theorem dX7_number_7 : decode cX7_number 7 = .ok (.aload_n 0, 1) := dk_42 (dk_at dksX7_number_0 7 rfl rfl)
theorem dX7_number_8 : decode cX7_number 8 = .ok (.getfield 66, 3) := dk_180 0 66 (dk_at dksX7_number_0 8 rfl rfl)
theorem dX7_number_11 : decode cX7_number 11 = .ok (.iconst 2, 1) := dk_5 (dk_at dksX7_number_0 11 rfl rfl)
theorem dX7_number_12 : decode cX7_number 12 = .ok (.if_icmp .eq 8, 3) := dk_159 0 8 (dk_at dksX7_number_0 12 rfl rfl)
theorem dX7_number_15 : decode cX7_number 15 = .ok (.aload_n 0, 1) := dk_42 (dk_at dksX7_number_0 15 rfl rfl)
theorem dX7_number_16 : decode cX7_number 16 = .ok (.iconst 2, 1) := dk_5 (dk_at dksX7_number_0 16 rfl rfl)
theorem dX7_number_17 : decode cX7_number 17 = .ok (.invokevirtual 87, 3) := dk_182 0 87 (dk_at dksX7_number_0 17 rfl rfl)
theorem dX7_number_20 : decode cX7_number 20 = .ok (.aload_n 0, 1) := dk_42 (dk_at dksX7_number_0 20 rfl rfl)
theorem dX7_number_21 : decode cX7_number 21 = .ok (.getfield 57, 3) := dk_180 0 57 (dk_at dksX7_number_0 21 rfl rfl)
theorem dX7_number_24 : decode cX7_number 24 = .ok (.ifCond .ne 23, 3) := dk_154 0 23 (dk_at dksX7_number_1 0 rfl rfl)
theorem dX7_number_27 : decode cX7_number 27 = .ok (.aload_n 0, 1) := dk_42 (dk_at dksX7_number_1 3 rfl rfl)
theorem dX7_number_28 : decode cX7_number 28 = .ok (.getfield 76, 3) := dk_180 0 76 (dk_at dksX7_number_1 4 rfl rfl)
theorem dX7_number_31 : decode cX7_number 31 = .ok (.i2l, 1) := dk_133 (dk_at dksX7_number_1 7 rfl rfl)
theorem dX7_number_32 : decode cX7_number 32 = .ok (.iload_n 1, 1) := dk_27 (dk_at dksX7_number_1 8 rfl rfl)
theorem dX7_number_33 : decode cX7_number 33 = .ok (.i2l, 1) := dk_133 (dk_at dksX7_number_1 9 rfl rfl)
theorem dX7_number_34 : decode cX7_number 34 = .ok (.iload_n 2, 1) := dk_28 (dk_at dksX7_number_1 10 rfl rfl)
theorem dX7_number_35 : decode cX7_number 35 = .ok (.i2l, 1) := dk_133 (dk_at dksX7_number_1 11 rfl rfl)
theorem dX7_number_36 : decode cX7_number 36 = .ok (.invokestatic 49, 3) := dk_184 0 49 (dk_at dksX7_number_1 12 rfl rfl)
theorem dX7_number_39 : decode cX7_number 39 = .ok (.ifCond .ne 8, 3) := dk_154 0 8 (dk_at dksX7_number_1 15 rfl rfl)
theorem dX7_number_42 : decode cX7_number 42 = .ok (.aload_n 0, 1) := dk_42 (dk_at dksX7_number_1 18 rfl rfl)
theorem dX7_number_43 : decode cX7_number 43 = .ok (.iconst 3, 1) := dk_6 (dk_at dksX7_number_1 19 rfl rfl)
theorem dX7_number_44 : decode cX7_number 44 = .ok (.invokevirtual 87, 3) := dk_182 0 87 (dk_at dksX7_number_1 20 rfl rfl)
theorem dX7_number_47 : decode cX7_number 47 = .ok (.aload_n 0, 1) := dk_42 (dk_at dksX7_number_1 23 rfl rfl)
theorem dX7_number_48 : decode cX7_number 48 = .ok (.getfield 57, 3) := dk_180 0 57 (dk_at dksX7_number_2 0 rfl rfl)
theorem dX7_number_51 : decode cX7_number 51 = .ok (.ifCond .ne 10, 3) := dk_154 0 10 (dk_at dksX7_number_2 3 rfl rfl)
theorem dX7_number_54 : decode cX7_number 54 = .ok (.aload_n 0, 1) := dk_42 (dk_at dksX7_number_2 6 rfl rfl)
theorem dX7_number_55 : decode cX7_number 55 = .ok (.getfield 76, 3) := dk_180 0 76 (dk_at dksX7_number_2 7 rfl rfl)
theorem dX7_number_58 : decode cX7_number 58 = .ok (.goto 4, 3) := dk_167 0 4 (dk_at dksX7_number_2 10 rfl rfl)
theorem dX7_number_61 : decode cX7_number 61 = .ok (.iload_n 1, 1) := dk_27 (dk_at dksX7_number_2 13 rfl rfl)
theorem dX7_number_62 : decode cX7_number 62 = .ok (.istore_n 3, 1) := dk_62 (dk_at dksX7_number_2 14 rfl rfl)
theorem dX7_number_63 : decode cX7_number 63 = .ok (.aload_n 0, 1) := dk_42 (dk_at dksX7_number_2 15 rfl rfl)
theorem dX7_number_64 : decode cX7_number 64 = .ok (.invokevirtual 91, 3) := dk_182 0 91 (dk_at dksX7_number_2 16 rfl rfl)
theorem dX7_number_67 : decode cX7_number 67 = .ok (.iload_n 3, 1) := dk_29 (dk_at dksX7_number_2 19 rfl rfl)
theorem dX7_number_68 : decode cX7_number 68 = .ok (.ireturn, 1) := dk_172 (dk_at dksX7_number_2 20 rfl rfl)
abbrev cX7_cellHere : ByteArray := prog_11_method_12_code
def yX7_cellHere : MethodName := ⟨RX7, "cellHere", "()I"⟩
def dkwX7_cellHere_2 : List UInt8 := [42, 180, 0, 76, 182, 0, 94, 153, 0, 8, 42, 7, 182, 0, 87, 42, 3, 16, 97, 182, 0, 98, 172]
abbrev dktX7_cellHere_2 : List UInt8 := dkwX7_cellHere_2 ++ []
def dkwX7_cellHere_1 : List UInt8 := [161, 0, 8, 42, 6, 182, 0, 87, 42, 180, 0, 57, 154, 0, 27, 42, 180, 0, 66, 5, 160, 0, 19, 42]
abbrev dktX7_cellHere_1 : List UInt8 := dkwX7_cellHere_1 ++ dktX7_cellHere_2
def dkwX7_cellHere_0 : List UInt8 := [42, 180, 0, 57, 154, 0, 28, 42, 180, 0, 66, 5, 160, 0, 20, 42, 180, 0, 76, 16, 10, 112, 16, 8]
abbrev dktX7_cellHere_0 : List UInt8 := dkwX7_cellHere_0 ++ dktX7_cellHere_1
theorem dksX7_cellHere_0 : cX7_cellHere.data.toList.drop 0 = dktX7_cellHere_0 := by decide +kernel
theorem dksX7_cellHere_1 : cX7_cellHere.data.toList.drop 24 = dktX7_cellHere_1 := dk_seg dksX7_cellHere_0 24 rfl rfl
theorem dksX7_cellHere_2 : cX7_cellHere.data.toList.drop 48 = dktX7_cellHere_2 := dk_seg dksX7_cellHere_1 24 rfl rfl
theorem dX7_cellHere_0 : decode cX7_cellHere 0 = .ok (.aload_n 0, 1) := dk_42 (dk_at dksX7_cellHere_0 0 rfl rfl)
theorem dX7_cellHere_1 : decode cX7_cellHere 1 = .ok (.getfield 57, 3) := dk_180 0 57 (dk_at dksX7_cellHere_0 1 rfl rfl)
theorem dX7_cellHere_4 : decode cX7_cellHere 4 = .ok (.ifCond .ne 28, 3) := dk_154 0 28 (dk_at dksX7_cellHere_0 4 rfl rfl)
theorem dX7_cellHere_7 : decode cX7_cellHere 7 = .ok (.aload_n 0, 1) := dk_42 (dk_at dksX7_cellHere_0 7 rfl rfl)
theorem dX7_cellHere_8 : decode cX7_cellHere 8 = .ok (.getfield 66, 3) := dk_180 0 66 (dk_at dksX7_cellHere_0 8 rfl rfl)
theorem dX7_cellHere_11 : decode cX7_cellHere 11 = .ok (.iconst 2, 1) := dk_5 (dk_at dksX7_cellHere_0 11 rfl rfl)
theorem dX7_cellHere_12 : decode cX7_cellHere 12 = .ok (.if_icmp .ne 20, 3) := dk_160 0 20 (dk_at dksX7_cellHere_0 12 rfl rfl)
theorem dX7_cellHere_15 : decode cX7_cellHere 15 = .ok (.aload_n 0, 1) := dk_42 (dk_at dksX7_cellHere_0 15 rfl rfl)
theorem dX7_cellHere_16 : decode cX7_cellHere 16 = .ok (.getfield 76, 3) := dk_180 0 76 (dk_at dksX7_cellHere_0 16 rfl rfl)
theorem dX7_cellHere_19 : decode cX7_cellHere 19 = .ok (.bipush 10, 2) := dk_16 10 (dk_at dksX7_cellHere_0 19 rfl rfl)
theorem dX7_cellHere_21 : decode cX7_cellHere 21 = .ok (.irem, 1) := dk_112 (dk_at dksX7_cellHere_0 21 rfl rfl)
theorem dX7_cellHere_22 : decode cX7_cellHere 22 = .ok (.bipush 8, 2) := dk_16 8 (dk_at dksX7_cellHere_0 22 rfl rfl)
theorem dX7_cellHere_24 : decode cX7_cellHere 24 = .ok (.if_icmp .lt 8, 3) := dk_161 0 8 (dk_at dksX7_cellHere_1 0 rfl rfl)
theorem dX7_cellHere_27 : decode cX7_cellHere 27 = .ok (.aload_n 0, 1) := dk_42 (dk_at dksX7_cellHere_1 3 rfl rfl)
theorem dX7_cellHere_28 : decode cX7_cellHere 28 = .ok (.iconst 3, 1) := dk_6 (dk_at dksX7_cellHere_1 4 rfl rfl)
theorem dX7_cellHere_29 : decode cX7_cellHere 29 = .ok (.invokevirtual 87, 3) := dk_182 0 87 (dk_at dksX7_cellHere_1 5 rfl rfl)
theorem dX7_cellHere_32 : decode cX7_cellHere 32 = .ok (.aload_n 0, 1) := dk_42 (dk_at dksX7_cellHere_1 8 rfl rfl)
theorem dX7_cellHere_33 : decode cX7_cellHere 33 = .ok (.getfield 57, 3) := dk_180 0 57 (dk_at dksX7_cellHere_1 9 rfl rfl)
theorem dX7_cellHere_36 : decode cX7_cellHere 36 = .ok (.ifCond .ne 27, 3) := dk_154 0 27 (dk_at dksX7_cellHere_1 12 rfl rfl)
theorem dX7_cellHere_39 : decode cX7_cellHere 39 = .ok (.aload_n 0, 1) := dk_42 (dk_at dksX7_cellHere_1 15 rfl rfl)
theorem dX7_cellHere_40 : decode cX7_cellHere 40 = .ok (.getfield 66, 3) := dk_180 0 66 (dk_at dksX7_cellHere_1 16 rfl rfl)
theorem dX7_cellHere_43 : decode cX7_cellHere 43 = .ok (.iconst 2, 1) := dk_5 (dk_at dksX7_cellHere_1 19 rfl rfl)
theorem dX7_cellHere_44 : decode cX7_cellHere 44 = .ok (.if_icmp .ne 19, 3) := dk_160 0 19 (dk_at dksX7_cellHere_1 20 rfl rfl)
theorem dX7_cellHere_47 : decode cX7_cellHere 47 = .ok (.aload_n 0, 1) := dk_42 (dk_at dksX7_cellHere_1 23 rfl rfl)
theorem dX7_cellHere_48 : decode cX7_cellHere 48 = .ok (.aload_n 0, 1) := dk_42 (dk_at dksX7_cellHere_2 0 rfl rfl)
theorem dX7_cellHere_49 : decode cX7_cellHere 49 = .ok (.getfield 76, 3) := dk_180 0 76 (dk_at dksX7_cellHere_2 1 rfl rfl)
theorem dX7_cellHere_52 : decode cX7_cellHere 52 = .ok (.invokevirtual 94, 3) := dk_182 0 94 (dk_at dksX7_cellHere_2 4 rfl rfl)
theorem dX7_cellHere_55 : decode cX7_cellHere 55 = .ok (.ifCond .eq 8, 3) := dk_153 0 8 (dk_at dksX7_cellHere_2 7 rfl rfl)
theorem dX7_cellHere_58 : decode cX7_cellHere 58 = .ok (.aload_n 0, 1) := dk_42 (dk_at dksX7_cellHere_2 10 rfl rfl)
theorem dX7_cellHere_59 : decode cX7_cellHere 59 = .ok (.iconst 4, 1) := dk_7 (dk_at dksX7_cellHere_2 11 rfl rfl)
theorem dX7_cellHere_60 : decode cX7_cellHere 60 = .ok (.invokevirtual 87, 3) := dk_182 0 87 (dk_at dksX7_cellHere_2 12 rfl rfl)
theorem dX7_cellHere_63 : decode cX7_cellHere 63 = .ok (.aload_n 0, 1) := dk_42 (dk_at dksX7_cellHere_2 15 rfl rfl)
theorem dX7_cellHere_64 : decode cX7_cellHere 64 = .ok (.iconst 0, 1) := dk_3 (dk_at dksX7_cellHere_2 16 rfl rfl)
theorem dX7_cellHere_65 : decode cX7_cellHere 65 = .ok (.bipush 97, 2) := dk_16 97 (dk_at dksX7_cellHere_2 17 rfl rfl)
theorem dX7_cellHere_67 : decode cX7_cellHere 67 = .ok (.invokevirtual 98, 3) := dk_182 0 98 (dk_at dksX7_cellHere_2 19 rfl rfl)
theorem dX7_cellHere_70 : decode cX7_cellHere 70 = .ok (.ireturn, 1) := dk_172 (dk_at dksX7_cellHere_2 22 rfl rfl)
abbrev cX7_isReadCell : ByteArray := prog_11_method_11_code
def yX7_isReadCell : MethodName := ⟨RX7, "isReadCell", "(I)Z"⟩
def dkwX7_isReadCell_3 : List UInt8 := [167, 0, 4, 3, 61, 132, 3, 1, 167, 255, 219, 28, 172]
abbrev dktX7_isReadCell_3 : List UInt8 := dkwX7_isReadCell_3 ++ []
def dkwX7_isReadCell_2 : List UInt8 := [16, 39, 46, 162, 0, 32, 28, 154, 0, 16, 42, 180, 0, 13, 16, 14, 29, 96, 46, 27, 160, 0, 7, 4]
abbrev dktX7_isReadCell_2 : List UInt8 := dkwX7_isReadCell_2 ++ dktX7_isReadCell_3
def dkwX7_isReadCell_1 : List UInt8 := [46, 27, 160, 0, 7, 4, 167, 0, 4, 3, 61, 132, 3, 1, 167, 255, 222, 3, 62, 29, 42, 180, 0, 13]
abbrev dktX7_isReadCell_1 : List UInt8 := dkwX7_isReadCell_1 ++ dktX7_isReadCell_2
def dkwX7_isReadCell_0 : List UInt8 := [3, 61, 3, 62, 29, 42, 180, 0, 13, 16, 38, 46, 162, 0, 29, 28, 154, 0, 13, 42, 180, 0, 13, 29]
abbrev dktX7_isReadCell_0 : List UInt8 := dkwX7_isReadCell_0 ++ dktX7_isReadCell_1
theorem dksX7_isReadCell_0 : cX7_isReadCell.data.toList.drop 0 = dktX7_isReadCell_0 := by decide +kernel
theorem dksX7_isReadCell_1 : cX7_isReadCell.data.toList.drop 24 = dktX7_isReadCell_1 := dk_seg dksX7_isReadCell_0 24 rfl rfl
theorem dksX7_isReadCell_2 : cX7_isReadCell.data.toList.drop 48 = dktX7_isReadCell_2 := dk_seg dksX7_isReadCell_1 24 rfl rfl
theorem dksX7_isReadCell_3 : cX7_isReadCell.data.toList.drop 72 = dktX7_isReadCell_3 := dk_seg dksX7_isReadCell_2 24 rfl rfl
theorem dX7_isReadCell_0 : decode cX7_isReadCell 0 = .ok (.iconst 0, 1) := dk_3 (dk_at dksX7_isReadCell_0 0 rfl rfl)
theorem dX7_isReadCell_1 : decode cX7_isReadCell 1 = .ok (.istore_n 2, 1) := dk_61 (dk_at dksX7_isReadCell_0 1 rfl rfl)
theorem dX7_isReadCell_2 : decode cX7_isReadCell 2 = .ok (.iconst 0, 1) := dk_3 (dk_at dksX7_isReadCell_0 2 rfl rfl)
theorem dX7_isReadCell_3 : decode cX7_isReadCell 3 = .ok (.istore_n 3, 1) := dk_62 (dk_at dksX7_isReadCell_0 3 rfl rfl)
theorem dX7_isReadCell_4 : decode cX7_isReadCell 4 = .ok (.iload_n 3, 1) := dk_29 (dk_at dksX7_isReadCell_0 4 rfl rfl)
theorem dX7_isReadCell_5 : decode cX7_isReadCell 5 = .ok (.aload_n 0, 1) := dk_42 (dk_at dksX7_isReadCell_0 5 rfl rfl)
theorem dX7_isReadCell_6 : decode cX7_isReadCell 6 = .ok (.getfield 13, 3) := dk_180 0 13 (dk_at dksX7_isReadCell_0 6 rfl rfl)
theorem dX7_isReadCell_9 : decode cX7_isReadCell 9 = .ok (.bipush 38, 2) := dk_16 38 (dk_at dksX7_isReadCell_0 9 rfl rfl)
theorem dX7_isReadCell_11 : decode cX7_isReadCell 11 = .ok (.iaload, 1) := dk_46 (dk_at dksX7_isReadCell_0 11 rfl rfl)
theorem dX7_isReadCell_12 : decode cX7_isReadCell 12 = .ok (.if_icmp .ge 29, 3) := dk_162 0 29 (dk_at dksX7_isReadCell_0 12 rfl rfl)
theorem dX7_isReadCell_15 : decode cX7_isReadCell 15 = .ok (.iload_n 2, 1) := dk_28 (dk_at dksX7_isReadCell_0 15 rfl rfl)
theorem dX7_isReadCell_16 : decode cX7_isReadCell 16 = .ok (.ifCond .ne 13, 3) := dk_154 0 13 (dk_at dksX7_isReadCell_0 16 rfl rfl)
theorem dX7_isReadCell_19 : decode cX7_isReadCell 19 = .ok (.aload_n 0, 1) := dk_42 (dk_at dksX7_isReadCell_0 19 rfl rfl)
theorem dX7_isReadCell_20 : decode cX7_isReadCell 20 = .ok (.getfield 13, 3) := dk_180 0 13 (dk_at dksX7_isReadCell_0 20 rfl rfl)
theorem dX7_isReadCell_23 : decode cX7_isReadCell 23 = .ok (.iload_n 3, 1) := dk_29 (dk_at dksX7_isReadCell_0 23 rfl rfl)
theorem dX7_isReadCell_24 : decode cX7_isReadCell 24 = .ok (.iaload, 1) := dk_46 (dk_at dksX7_isReadCell_1 0 rfl rfl)
theorem dX7_isReadCell_25 : decode cX7_isReadCell 25 = .ok (.iload_n 1, 1) := dk_27 (dk_at dksX7_isReadCell_1 1 rfl rfl)
theorem dX7_isReadCell_26 : decode cX7_isReadCell 26 = .ok (.if_icmp .ne 7, 3) := dk_160 0 7 (dk_at dksX7_isReadCell_1 2 rfl rfl)
theorem dX7_isReadCell_29 : decode cX7_isReadCell 29 = .ok (.iconst 1, 1) := dk_4 (dk_at dksX7_isReadCell_1 5 rfl rfl)
theorem dX7_isReadCell_30 : decode cX7_isReadCell 30 = .ok (.goto 4, 3) := dk_167 0 4 (dk_at dksX7_isReadCell_1 6 rfl rfl)
theorem dX7_isReadCell_33 : decode cX7_isReadCell 33 = .ok (.iconst 0, 1) := dk_3 (dk_at dksX7_isReadCell_1 9 rfl rfl)
theorem dX7_isReadCell_34 : decode cX7_isReadCell 34 = .ok (.istore_n 2, 1) := dk_61 (dk_at dksX7_isReadCell_1 10 rfl rfl)
theorem dX7_isReadCell_35 : decode cX7_isReadCell 35 = .ok (.iinc 3 1, 3) := dk_132 3 1 (dk_at dksX7_isReadCell_1 11 rfl rfl)
theorem dX7_isReadCell_38 : decode cX7_isReadCell 38 = .ok (.goto (-34), 3) := dk_167 255 222 (dk_at dksX7_isReadCell_1 14 rfl rfl)
theorem dX7_isReadCell_41 : decode cX7_isReadCell 41 = .ok (.iconst 0, 1) := dk_3 (dk_at dksX7_isReadCell_1 17 rfl rfl)
theorem dX7_isReadCell_42 : decode cX7_isReadCell 42 = .ok (.istore_n 3, 1) := dk_62 (dk_at dksX7_isReadCell_1 18 rfl rfl)
theorem dX7_isReadCell_43 : decode cX7_isReadCell 43 = .ok (.iload_n 3, 1) := dk_29 (dk_at dksX7_isReadCell_1 19 rfl rfl)
theorem dX7_isReadCell_44 : decode cX7_isReadCell 44 = .ok (.aload_n 0, 1) := dk_42 (dk_at dksX7_isReadCell_1 20 rfl rfl)
theorem dX7_isReadCell_45 : decode cX7_isReadCell 45 = .ok (.getfield 13, 3) := dk_180 0 13 (dk_at dksX7_isReadCell_1 21 rfl rfl)
theorem dX7_isReadCell_48 : decode cX7_isReadCell 48 = .ok (.bipush 39, 2) := dk_16 39 (dk_at dksX7_isReadCell_2 0 rfl rfl)
theorem dX7_isReadCell_50 : decode cX7_isReadCell 50 = .ok (.iaload, 1) := dk_46 (dk_at dksX7_isReadCell_2 2 rfl rfl)
theorem dX7_isReadCell_51 : decode cX7_isReadCell 51 = .ok (.if_icmp .ge 32, 3) := dk_162 0 32 (dk_at dksX7_isReadCell_2 3 rfl rfl)
theorem dX7_isReadCell_54 : decode cX7_isReadCell 54 = .ok (.iload_n 2, 1) := dk_28 (dk_at dksX7_isReadCell_2 6 rfl rfl)
theorem dX7_isReadCell_55 : decode cX7_isReadCell 55 = .ok (.ifCond .ne 16, 3) := dk_154 0 16 (dk_at dksX7_isReadCell_2 7 rfl rfl)
theorem dX7_isReadCell_58 : decode cX7_isReadCell 58 = .ok (.aload_n 0, 1) := dk_42 (dk_at dksX7_isReadCell_2 10 rfl rfl)
theorem dX7_isReadCell_59 : decode cX7_isReadCell 59 = .ok (.getfield 13, 3) := dk_180 0 13 (dk_at dksX7_isReadCell_2 11 rfl rfl)
theorem dX7_isReadCell_62 : decode cX7_isReadCell 62 = .ok (.bipush 14, 2) := dk_16 14 (dk_at dksX7_isReadCell_2 14 rfl rfl)
theorem dX7_isReadCell_64 : decode cX7_isReadCell 64 = .ok (.iload_n 3, 1) := dk_29 (dk_at dksX7_isReadCell_2 16 rfl rfl)
theorem dX7_isReadCell_65 : decode cX7_isReadCell 65 = .ok (.iadd, 1) := dk_96 (dk_at dksX7_isReadCell_2 17 rfl rfl)
theorem dX7_isReadCell_66 : decode cX7_isReadCell 66 = .ok (.iaload, 1) := dk_46 (dk_at dksX7_isReadCell_2 18 rfl rfl)
theorem dX7_isReadCell_67 : decode cX7_isReadCell 67 = .ok (.iload_n 1, 1) := dk_27 (dk_at dksX7_isReadCell_2 19 rfl rfl)
theorem dX7_isReadCell_68 : decode cX7_isReadCell 68 = .ok (.if_icmp .ne 7, 3) := dk_160 0 7 (dk_at dksX7_isReadCell_2 20 rfl rfl)
theorem dX7_isReadCell_71 : decode cX7_isReadCell 71 = .ok (.iconst 1, 1) := dk_4 (dk_at dksX7_isReadCell_2 23 rfl rfl)
theorem dX7_isReadCell_72 : decode cX7_isReadCell 72 = .ok (.goto 4, 3) := dk_167 0 4 (dk_at dksX7_isReadCell_3 0 rfl rfl)
theorem dX7_isReadCell_75 : decode cX7_isReadCell 75 = .ok (.iconst 0, 1) := dk_3 (dk_at dksX7_isReadCell_3 3 rfl rfl)
theorem dX7_isReadCell_76 : decode cX7_isReadCell 76 = .ok (.istore_n 2, 1) := dk_61 (dk_at dksX7_isReadCell_3 4 rfl rfl)
theorem dX7_isReadCell_77 : decode cX7_isReadCell 77 = .ok (.iinc 3 1, 3) := dk_132 3 1 (dk_at dksX7_isReadCell_3 5 rfl rfl)
theorem dX7_isReadCell_80 : decode cX7_isReadCell 80 = .ok (.goto (-37), 3) := dk_167 255 219 (dk_at dksX7_isReadCell_3 8 rfl rfl)
theorem dX7_isReadCell_83 : decode cX7_isReadCell 83 = .ok (.iload_n 2, 1) := dk_28 (dk_at dksX7_isReadCell_3 11 rfl rfl)
theorem dX7_isReadCell_84 : decode cX7_isReadCell 84 = .ok (.ireturn, 1) := dk_172 (dk_at dksX7_isReadCell_3 12 rfl rfl)
abbrev cX7_fault : ByteArray := prog_11_method_17_code
def yX7_fault : MethodName := ⟨RX7, "fault", "()I"⟩
theorem dX7_fault_0 : decode cX7_fault 0 = .ok (.aload_n 0, 1) := by decide +kernel
theorem dX7_fault_1 : decode cX7_fault 1 = .ok (.getfield 126, 3) := by decide +kernel
theorem dX7_fault_4 : decode cX7_fault 4 = .ok (.ireturn, 1) := by decide +kernel
abbrev cX7_rule : ByteArray := prog_11_method_33_code
def yX7_rule : MethodName := ⟨RX7, "rule", "(I)I"⟩
def dkwX7_rule_5 : List UInt8 := [180, 0, 7, 16, 40, 46, 172, 42, 3, 16, 252, 182, 0, 172, 172, 28, 172, 2, 172]
abbrev dktX7_rule_5 : List UInt8 := dkwX7_rule_5 ++ []
def dkwX7_rule_4 : List UInt8 := [42, 180, 0, 7, 16, 38, 46, 172, 42, 180, 0, 7, 16, 39, 46, 172, 42, 180, 0, 129, 172, 42]
abbrev dktX7_rule_4 : List UInt8 := dkwX7_rule_4 ++ dktX7_rule_5
def dkwX7_rule_3 : List UInt8 := [170, 0, 0, 0, 76, 0, 0, 0, 0, 0, 0, 0, 5, 0, 0, 0, 37, 0, 0, 0, 45, 0, 0, 0, 53, 0, 0, 0, 58, 0, 0, 0, 66, 0, 0, 0, 74]
abbrev dktX7_rule_3 : List UInt8 := dkwX7_rule_3 ++ dktX7_rule_4
def dkwX7_rule_2 : List UInt8 := [29, 120, 167, 0, 4, 3, 128, 61, 132, 3, 1, 167, 255, 201, 27]
abbrev dktX7_rule_2 : List UInt8 := dkwX7_rule_2 ++ dktX7_rule_3
def dkwX7_rule_1 : List UInt8 := [96, 46, 42, 180, 0, 7, 16, 32, 29, 96, 46, 3, 182, 0, 164, 28, 42, 180, 0, 154, 153, 0, 9, 4]
abbrev dktX7_rule_1 : List UInt8 := dkwX7_rule_1 ++ dktX7_rule_2
def dkwX7_rule_0 : List UInt8 := [3, 61, 3, 62, 29, 42, 180, 0, 7, 16, 40, 46, 162, 0, 50, 42, 3, 42, 180, 0, 7, 16, 26, 29]
abbrev dktX7_rule_0 : List UInt8 := dkwX7_rule_0 ++ dktX7_rule_1
theorem dksX7_rule_0 : cX7_rule.data.toList.drop 0 = dktX7_rule_0 := by decide +kernel
theorem dksX7_rule_1 : cX7_rule.data.toList.drop 24 = dktX7_rule_1 := dk_seg dksX7_rule_0 24 rfl rfl
theorem dksX7_rule_2 : cX7_rule.data.toList.drop 48 = dktX7_rule_2 := dk_seg dksX7_rule_1 24 rfl rfl
theorem dksX7_rule_3 : cX7_rule.data.toList.drop 63 = dktX7_rule_3 := dk_seg dksX7_rule_2 15 rfl rfl
theorem dksX7_rule_4 : cX7_rule.data.toList.drop 100 = dktX7_rule_4 := dk_seg dksX7_rule_3 37 rfl rfl
theorem dksX7_rule_5 : cX7_rule.data.toList.drop 122 = dktX7_rule_5 := dk_seg dksX7_rule_4 22 rfl rfl
theorem dX7_rule_0 : decode cX7_rule 0 = .ok (.iconst 0, 1) := dk_3 (dk_at dksX7_rule_0 0 rfl rfl)
theorem dX7_rule_1 : decode cX7_rule 1 = .ok (.istore_n 2, 1) := dk_61 (dk_at dksX7_rule_0 1 rfl rfl)
theorem dX7_rule_2 : decode cX7_rule 2 = .ok (.iconst 0, 1) := dk_3 (dk_at dksX7_rule_0 2 rfl rfl)
theorem dX7_rule_3 : decode cX7_rule 3 = .ok (.istore_n 3, 1) := dk_62 (dk_at dksX7_rule_0 3 rfl rfl)
theorem dX7_rule_4 : decode cX7_rule 4 = .ok (.iload_n 3, 1) := dk_29 (dk_at dksX7_rule_0 4 rfl rfl)
theorem dX7_rule_5 : decode cX7_rule 5 = .ok (.aload_n 0, 1) := dk_42 (dk_at dksX7_rule_0 5 rfl rfl)
theorem dX7_rule_6 : decode cX7_rule 6 = .ok (.getfield 7, 3) := dk_180 0 7 (dk_at dksX7_rule_0 6 rfl rfl)
theorem dX7_rule_9 : decode cX7_rule 9 = .ok (.bipush 40, 2) := dk_16 40 (dk_at dksX7_rule_0 9 rfl rfl)
theorem dX7_rule_11 : decode cX7_rule 11 = .ok (.iaload, 1) := dk_46 (dk_at dksX7_rule_0 11 rfl rfl)
theorem dX7_rule_12 : decode cX7_rule 12 = .ok (.if_icmp .ge 50, 3) := dk_162 0 50 (dk_at dksX7_rule_0 12 rfl rfl)
theorem dX7_rule_15 : decode cX7_rule 15 = .ok (.aload_n 0, 1) := dk_42 (dk_at dksX7_rule_0 15 rfl rfl)
theorem dX7_rule_16 : decode cX7_rule 16 = .ok (.iconst 0, 1) := dk_3 (dk_at dksX7_rule_0 16 rfl rfl)
theorem dX7_rule_17 : decode cX7_rule 17 = .ok (.aload_n 0, 1) := dk_42 (dk_at dksX7_rule_0 17 rfl rfl)
theorem dX7_rule_18 : decode cX7_rule 18 = .ok (.getfield 7, 3) := dk_180 0 7 (dk_at dksX7_rule_0 18 rfl rfl)
theorem dX7_rule_21 : decode cX7_rule 21 = .ok (.bipush 26, 2) := dk_16 26 (dk_at dksX7_rule_0 21 rfl rfl)
theorem dX7_rule_23 : decode cX7_rule 23 = .ok (.iload_n 3, 1) := dk_29 (dk_at dksX7_rule_0 23 rfl rfl)
theorem dX7_rule_24 : decode cX7_rule 24 = .ok (.iadd, 1) := dk_96 (dk_at dksX7_rule_1 0 rfl rfl)
theorem dX7_rule_25 : decode cX7_rule 25 = .ok (.iaload, 1) := dk_46 (dk_at dksX7_rule_1 1 rfl rfl)
theorem dX7_rule_26 : decode cX7_rule 26 = .ok (.aload_n 0, 1) := dk_42 (dk_at dksX7_rule_1 2 rfl rfl)
theorem dX7_rule_27 : decode cX7_rule 27 = .ok (.getfield 7, 3) := dk_180 0 7 (dk_at dksX7_rule_1 3 rfl rfl)
theorem dX7_rule_30 : decode cX7_rule 30 = .ok (.bipush 32, 2) := dk_16 32 (dk_at dksX7_rule_1 6 rfl rfl)
theorem dX7_rule_32 : decode cX7_rule 32 = .ok (.iload_n 3, 1) := dk_29 (dk_at dksX7_rule_1 8 rfl rfl)
theorem dX7_rule_33 : decode cX7_rule 33 = .ok (.iadd, 1) := dk_96 (dk_at dksX7_rule_1 9 rfl rfl)
theorem dX7_rule_34 : decode cX7_rule 34 = .ok (.iaload, 1) := dk_46 (dk_at dksX7_rule_1 10 rfl rfl)
theorem dX7_rule_35 : decode cX7_rule 35 = .ok (.iconst 0, 1) := dk_3 (dk_at dksX7_rule_1 11 rfl rfl)
theorem dX7_rule_36 : decode cX7_rule 36 = .ok (.invokevirtual 164, 3) := dk_182 0 164 (dk_at dksX7_rule_1 12 rfl rfl)
theorem dX7_rule_39 : decode cX7_rule 39 = .ok (.iload_n 2, 1) := dk_28 (dk_at dksX7_rule_1 15 rfl rfl)
theorem dX7_rule_40 : decode cX7_rule 40 = .ok (.aload_n 0, 1) := dk_42 (dk_at dksX7_rule_1 16 rfl rfl)
theorem dX7_rule_41 : decode cX7_rule 41 = .ok (.getfield 154, 3) := dk_180 0 154 (dk_at dksX7_rule_1 17 rfl rfl)
theorem dX7_rule_44 : decode cX7_rule 44 = .ok (.ifCond .eq 9, 3) := dk_153 0 9 (dk_at dksX7_rule_1 20 rfl rfl)
theorem dX7_rule_47 : decode cX7_rule 47 = .ok (.iconst 1, 1) := dk_4 (dk_at dksX7_rule_1 23 rfl rfl)
theorem dX7_rule_48 : decode cX7_rule 48 = .ok (.iload_n 3, 1) := dk_29 (dk_at dksX7_rule_2 0 rfl rfl)
theorem dX7_rule_49 : decode cX7_rule 49 = .ok (.ishl, 1) := dk_120 (dk_at dksX7_rule_2 1 rfl rfl)
theorem dX7_rule_50 : decode cX7_rule 50 = .ok (.goto 4, 3) := dk_167 0 4 (dk_at dksX7_rule_2 2 rfl rfl)
theorem dX7_rule_53 : decode cX7_rule 53 = .ok (.iconst 0, 1) := dk_3 (dk_at dksX7_rule_2 5 rfl rfl)
theorem dX7_rule_54 : decode cX7_rule 54 = .ok (.ior, 1) := dk_128 (dk_at dksX7_rule_2 6 rfl rfl)
theorem dX7_rule_55 : decode cX7_rule 55 = .ok (.istore_n 2, 1) := dk_61 (dk_at dksX7_rule_2 7 rfl rfl)
theorem dX7_rule_56 : decode cX7_rule 56 = .ok (.iinc 3 1, 3) := dk_132 3 1 (dk_at dksX7_rule_2 8 rfl rfl)
theorem dX7_rule_59 : decode cX7_rule 59 = .ok (.goto (-55), 3) := dk_167 255 201 (dk_at dksX7_rule_2 11 rfl rfl)
theorem dX7_rule_62 : decode cX7_rule 62 = .ok (.iload_n 1, 1) := dk_27 (dk_at dksX7_rule_2 14 rfl rfl)
theorem dX7_rule_63 : decode cX7_rule 63 = .ok (.tableswitch 76 0 5 #[37, 45, 53, 58, 66, 74], 37) := by decide +kernel
theorem dX7_rule_100 : decode cX7_rule 100 = .ok (.aload_n 0, 1) := dk_42 (dk_at dksX7_rule_4 0 rfl rfl)
theorem dX7_rule_101 : decode cX7_rule 101 = .ok (.getfield 7, 3) := dk_180 0 7 (dk_at dksX7_rule_4 1 rfl rfl)
theorem dX7_rule_104 : decode cX7_rule 104 = .ok (.bipush 38, 2) := dk_16 38 (dk_at dksX7_rule_4 4 rfl rfl)
theorem dX7_rule_106 : decode cX7_rule 106 = .ok (.iaload, 1) := dk_46 (dk_at dksX7_rule_4 6 rfl rfl)
theorem dX7_rule_107 : decode cX7_rule 107 = .ok (.ireturn, 1) := dk_172 (dk_at dksX7_rule_4 7 rfl rfl)
theorem dX7_rule_108 : decode cX7_rule 108 = .ok (.aload_n 0, 1) := dk_42 (dk_at dksX7_rule_4 8 rfl rfl)
theorem dX7_rule_109 : decode cX7_rule 109 = .ok (.getfield 7, 3) := dk_180 0 7 (dk_at dksX7_rule_4 9 rfl rfl)
theorem dX7_rule_112 : decode cX7_rule 112 = .ok (.bipush 39, 2) := dk_16 39 (dk_at dksX7_rule_4 12 rfl rfl)
theorem dX7_rule_114 : decode cX7_rule 114 = .ok (.iaload, 1) := dk_46 (dk_at dksX7_rule_4 14 rfl rfl)
theorem dX7_rule_115 : decode cX7_rule 115 = .ok (.ireturn, 1) := dk_172 (dk_at dksX7_rule_4 15 rfl rfl)
theorem dX7_rule_116 : decode cX7_rule 116 = .ok (.aload_n 0, 1) := dk_42 (dk_at dksX7_rule_4 16 rfl rfl)
theorem dX7_rule_117 : decode cX7_rule 117 = .ok (.getfield 129, 3) := dk_180 0 129 (dk_at dksX7_rule_4 17 rfl rfl)
theorem dX7_rule_120 : decode cX7_rule 120 = .ok (.ireturn, 1) := dk_172 (dk_at dksX7_rule_4 20 rfl rfl)
theorem dX7_rule_121 : decode cX7_rule 121 = .ok (.aload_n 0, 1) := dk_42 (dk_at dksX7_rule_4 21 rfl rfl)
theorem dX7_rule_122 : decode cX7_rule 122 = .ok (.getfield 7, 3) := dk_180 0 7 (dk_at dksX7_rule_5 0 rfl rfl)
theorem dX7_rule_125 : decode cX7_rule 125 = .ok (.bipush 40, 2) := dk_16 40 (dk_at dksX7_rule_5 3 rfl rfl)
theorem dX7_rule_127 : decode cX7_rule 127 = .ok (.iaload, 1) := dk_46 (dk_at dksX7_rule_5 5 rfl rfl)
theorem dX7_rule_128 : decode cX7_rule 128 = .ok (.ireturn, 1) := dk_172 (dk_at dksX7_rule_5 6 rfl rfl)
theorem dX7_rule_129 : decode cX7_rule 129 = .ok (.aload_n 0, 1) := dk_42 (dk_at dksX7_rule_5 7 rfl rfl)
theorem dX7_rule_130 : decode cX7_rule 130 = .ok (.iconst 0, 1) := dk_3 (dk_at dksX7_rule_5 8 rfl rfl)
theorem dX7_rule_131 : decode cX7_rule 131 = .ok (.bipush (-4), 2) := dk_16 252 (dk_at dksX7_rule_5 9 rfl rfl)
theorem dX7_rule_133 : decode cX7_rule 133 = .ok (.invokevirtual 172, 3) := dk_182 0 172 (dk_at dksX7_rule_5 11 rfl rfl)
theorem dX7_rule_136 : decode cX7_rule 136 = .ok (.ireturn, 1) := dk_172 (dk_at dksX7_rule_5 14 rfl rfl)
theorem dX7_rule_137 : decode cX7_rule 137 = .ok (.iload_n 2, 1) := dk_28 (dk_at dksX7_rule_5 15 rfl rfl)
theorem dX7_rule_138 : decode cX7_rule 138 = .ok (.ireturn, 1) := dk_172 (dk_at dksX7_rule_5 16 rfl rfl)
theorem dX7_rule_139 : decode cX7_rule 139 = .ok (.iconst (-1), 1) := dk_2 (dk_at dksX7_rule_5 17 rfl rfl)
theorem dX7_rule_140 : decode cX7_rule 140 = .ok (.ireturn, 1) := dk_172 (dk_at dksX7_rule_5 18 rfl rfl)
abbrev cX7_runsOn : ByteArray := prog_11_method_29_code
def yX7_runsOn : MethodName := ⟨RX7, "runsOn", "(IIII)V"⟩
def dkwX7_runsOn_9 : List UInt8 := [161, 0, 8, 16, 7, 167, 0, 5, 21, 11, 54, 7, 132, 8, 1, 167, 255, 82, 177]
abbrev dktX7_runsOn_9 : List UInt8 := dkwX7_runsOn_9 ++ []
def dkwX7_runsOn_8 : List UInt8 := [21, 5, 21, 8, 184, 0, 161, 104, 96, 54, 11, 21, 11, 156, 0, 7, 3, 167, 0, 17, 21, 11, 16, 8]
abbrev dktX7_runsOn_8 : List UInt8 := dkwX7_runsOn_8 ++ dktX7_runsOn_9
def dkwX7_runsOn_7 : List UInt8 := [181, 0, 148, 167, 0, 57, 21, 7, 21, 4, 21, 8, 122, 4, 126, 4, 160, 0, 7, 2, 167, 0, 4, 4]
abbrev dktX7_runsOn_7 : List UInt8 := dkwX7_runsOn_7 ++ dktX7_runsOn_8
def dkwX7_runsOn_6 : List UInt8 := [21, 6, 21, 5, 184, 0, 158, 100, 54, 6, 21, 6, 157, 0, 18, 42, 21, 10, 181, 0, 145, 42, 21, 8]
abbrev dktX7_runsOn_6 : List UInt8 := dkwX7_runsOn_6 ++ dktX7_runsOn_7
def dkwX7_runsOn_5 : List UInt8 := [181, 0, 148, 167, 0, 104, 21, 10, 16, 252, 159, 0, 97, 42, 89, 180, 0, 151, 4, 96, 181, 0, 151]
abbrev dktX7_runsOn_5 : List UInt8 := dkwX7_runsOn_5 ++ dktX7_runsOn_6
def dkwX7_runsOn_4 : List UInt8 := [21, 7, 79, 42, 27, 21, 9, 182, 0, 142, 16, 252, 159, 0, 17, 42, 4, 181, 0, 154, 42, 21, 8]
abbrev dktX7_runsOn_4 : List UInt8 := dkwX7_runsOn_4 ++ dktX7_runsOn_5
def dkwX7_runsOn_3 : List UInt8 := [21, 8, 104, 21, 7, 96, 54, 9, 42, 27, 21, 9, 182, 0, 139, 54, 10, 42, 180, 0, 25, 21, 8]
abbrev dktX7_runsOn_3 : List UInt8 := dkwX7_runsOn_3 ++ dktX7_runsOn_4
def dkwX7_runsOn_2 : List UInt8 := [181, 0, 154, 3, 54, 8, 21, 8, 16, 10, 162, 0, 173, 42, 180, 0, 148, 16, 10, 160, 0, 164, 16, 10]
abbrev dktX7_runsOn_2 : List UInt8 := dkwX7_runsOn_2 ++ dktX7_runsOn_3
def dkwX7_runsOn_1 : List UInt8 := [54, 6, 29, 54, 7, 42, 16, 252, 181, 0, 145, 42, 16, 10, 181, 0, 148, 42, 3, 181, 0, 151, 42, 3]
abbrev dktX7_runsOn_1 : List UInt8 := dkwX7_runsOn_1 ++ dktX7_runsOn_2
def dkwX7_runsOn_0 : List UInt8 := [42, 180, 0, 7, 27, 16, 18, 96, 28, 96, 46, 54, 5, 42, 180, 0, 7, 27, 16, 22, 96, 28, 96, 46]
abbrev dktX7_runsOn_0 : List UInt8 := dkwX7_runsOn_0 ++ dktX7_runsOn_1
theorem dksX7_runsOn_0 : cX7_runsOn.data.toList.drop 0 = dktX7_runsOn_0 := by decide +kernel
theorem dksX7_runsOn_1 : cX7_runsOn.data.toList.drop 24 = dktX7_runsOn_1 := dk_seg dksX7_runsOn_0 24 rfl rfl
theorem dksX7_runsOn_2 : cX7_runsOn.data.toList.drop 48 = dktX7_runsOn_2 := dk_seg dksX7_runsOn_1 24 rfl rfl
theorem dksX7_runsOn_3 : cX7_runsOn.data.toList.drop 72 = dktX7_runsOn_3 := dk_seg dksX7_runsOn_2 24 rfl rfl
theorem dksX7_runsOn_4 : cX7_runsOn.data.toList.drop 95 = dktX7_runsOn_4 := dk_seg dksX7_runsOn_3 23 rfl rfl
theorem dksX7_runsOn_5 : cX7_runsOn.data.toList.drop 118 = dktX7_runsOn_5 := dk_seg dksX7_runsOn_4 23 rfl rfl
theorem dksX7_runsOn_6 : cX7_runsOn.data.toList.drop 141 = dktX7_runsOn_6 := dk_seg dksX7_runsOn_5 23 rfl rfl
theorem dksX7_runsOn_7 : cX7_runsOn.data.toList.drop 165 = dktX7_runsOn_7 := dk_seg dksX7_runsOn_6 24 rfl rfl
theorem dksX7_runsOn_8 : cX7_runsOn.data.toList.drop 189 = dktX7_runsOn_8 := dk_seg dksX7_runsOn_7 24 rfl rfl
theorem dksX7_runsOn_9 : cX7_runsOn.data.toList.drop 213 = dktX7_runsOn_9 := dk_seg dksX7_runsOn_8 24 rfl rfl
theorem dX7_runsOn_0 : decode cX7_runsOn 0 = .ok (.aload_n 0, 1) := dk_42 (dk_at dksX7_runsOn_0 0 rfl rfl)
theorem dX7_runsOn_1 : decode cX7_runsOn 1 = .ok (.getfield 7, 3) := dk_180 0 7 (dk_at dksX7_runsOn_0 1 rfl rfl)
theorem dX7_runsOn_4 : decode cX7_runsOn 4 = .ok (.iload_n 1, 1) := dk_27 (dk_at dksX7_runsOn_0 4 rfl rfl)
theorem dX7_runsOn_5 : decode cX7_runsOn 5 = .ok (.bipush 18, 2) := dk_16 18 (dk_at dksX7_runsOn_0 5 rfl rfl)
theorem dX7_runsOn_7 : decode cX7_runsOn 7 = .ok (.iadd, 1) := dk_96 (dk_at dksX7_runsOn_0 7 rfl rfl)
theorem dX7_runsOn_8 : decode cX7_runsOn 8 = .ok (.iload_n 2, 1) := dk_28 (dk_at dksX7_runsOn_0 8 rfl rfl)
theorem dX7_runsOn_9 : decode cX7_runsOn 9 = .ok (.iadd, 1) := dk_96 (dk_at dksX7_runsOn_0 9 rfl rfl)
theorem dX7_runsOn_10 : decode cX7_runsOn 10 = .ok (.iaload, 1) := dk_46 (dk_at dksX7_runsOn_0 10 rfl rfl)
theorem dX7_runsOn_11 : decode cX7_runsOn 11 = .ok (.istore 5, 2) := dk_54 5 (dk_at dksX7_runsOn_0 11 rfl rfl)
theorem dX7_runsOn_13 : decode cX7_runsOn 13 = .ok (.aload_n 0, 1) := dk_42 (dk_at dksX7_runsOn_0 13 rfl rfl)
theorem dX7_runsOn_14 : decode cX7_runsOn 14 = .ok (.getfield 7, 3) := dk_180 0 7 (dk_at dksX7_runsOn_0 14 rfl rfl)
theorem dX7_runsOn_17 : decode cX7_runsOn 17 = .ok (.iload_n 1, 1) := dk_27 (dk_at dksX7_runsOn_0 17 rfl rfl)
theorem dX7_runsOn_18 : decode cX7_runsOn 18 = .ok (.bipush 22, 2) := dk_16 22 (dk_at dksX7_runsOn_0 18 rfl rfl)
theorem dX7_runsOn_20 : decode cX7_runsOn 20 = .ok (.iadd, 1) := dk_96 (dk_at dksX7_runsOn_0 20 rfl rfl)
theorem dX7_runsOn_21 : decode cX7_runsOn 21 = .ok (.iload_n 2, 1) := dk_28 (dk_at dksX7_runsOn_0 21 rfl rfl)
theorem dX7_runsOn_22 : decode cX7_runsOn 22 = .ok (.iadd, 1) := dk_96 (dk_at dksX7_runsOn_0 22 rfl rfl)
theorem dX7_runsOn_23 : decode cX7_runsOn 23 = .ok (.iaload, 1) := dk_46 (dk_at dksX7_runsOn_0 23 rfl rfl)
theorem dX7_runsOn_24 : decode cX7_runsOn 24 = .ok (.istore 6, 2) := dk_54 6 (dk_at dksX7_runsOn_1 0 rfl rfl)
theorem dX7_runsOn_26 : decode cX7_runsOn 26 = .ok (.iload_n 3, 1) := dk_29 (dk_at dksX7_runsOn_1 2 rfl rfl)
theorem dX7_runsOn_27 : decode cX7_runsOn 27 = .ok (.istore 7, 2) := dk_54 7 (dk_at dksX7_runsOn_1 3 rfl rfl)
theorem dX7_runsOn_29 : decode cX7_runsOn 29 = .ok (.aload_n 0, 1) := dk_42 (dk_at dksX7_runsOn_1 5 rfl rfl)
theorem dX7_runsOn_30 : decode cX7_runsOn 30 = .ok (.bipush (-4), 2) := dk_16 252 (dk_at dksX7_runsOn_1 6 rfl rfl)
theorem dX7_runsOn_32 : decode cX7_runsOn 32 = .ok (.putfield 145, 3) := dk_181 0 145 (dk_at dksX7_runsOn_1 8 rfl rfl)
theorem dX7_runsOn_35 : decode cX7_runsOn 35 = .ok (.aload_n 0, 1) := dk_42 (dk_at dksX7_runsOn_1 11 rfl rfl)
theorem dX7_runsOn_36 : decode cX7_runsOn 36 = .ok (.bipush 10, 2) := dk_16 10 (dk_at dksX7_runsOn_1 12 rfl rfl)
theorem dX7_runsOn_38 : decode cX7_runsOn 38 = .ok (.putfield 148, 3) := dk_181 0 148 (dk_at dksX7_runsOn_1 14 rfl rfl)
theorem dX7_runsOn_41 : decode cX7_runsOn 41 = .ok (.aload_n 0, 1) := dk_42 (dk_at dksX7_runsOn_1 17 rfl rfl)
theorem dX7_runsOn_42 : decode cX7_runsOn 42 = .ok (.iconst 0, 1) := dk_3 (dk_at dksX7_runsOn_1 18 rfl rfl)
theorem dX7_runsOn_43 : decode cX7_runsOn 43 = .ok (.putfield 151, 3) := dk_181 0 151 (dk_at dksX7_runsOn_1 19 rfl rfl)
theorem dX7_runsOn_46 : decode cX7_runsOn 46 = .ok (.aload_n 0, 1) := dk_42 (dk_at dksX7_runsOn_1 22 rfl rfl)
theorem dX7_runsOn_47 : decode cX7_runsOn 47 = .ok (.iconst 0, 1) := dk_3 (dk_at dksX7_runsOn_1 23 rfl rfl)
theorem dX7_runsOn_48 : decode cX7_runsOn 48 = .ok (.putfield 154, 3) := dk_181 0 154 (dk_at dksX7_runsOn_2 0 rfl rfl)
theorem dX7_runsOn_51 : decode cX7_runsOn 51 = .ok (.iconst 0, 1) := dk_3 (dk_at dksX7_runsOn_2 3 rfl rfl)
theorem dX7_runsOn_52 : decode cX7_runsOn 52 = .ok (.istore 8, 2) := dk_54 8 (dk_at dksX7_runsOn_2 4 rfl rfl)
theorem dX7_runsOn_54 : decode cX7_runsOn 54 = .ok (.iload 8, 2) := dk_21 8 (dk_at dksX7_runsOn_2 6 rfl rfl)
theorem dX7_runsOn_56 : decode cX7_runsOn 56 = .ok (.bipush 10, 2) := dk_16 10 (dk_at dksX7_runsOn_2 8 rfl rfl)
theorem dX7_runsOn_58 : decode cX7_runsOn 58 = .ok (.if_icmp .ge 173, 3) := dk_162 0 173 (dk_at dksX7_runsOn_2 10 rfl rfl)
theorem dX7_runsOn_61 : decode cX7_runsOn 61 = .ok (.aload_n 0, 1) := dk_42 (dk_at dksX7_runsOn_2 13 rfl rfl)
theorem dX7_runsOn_62 : decode cX7_runsOn 62 = .ok (.getfield 148, 3) := dk_180 0 148 (dk_at dksX7_runsOn_2 14 rfl rfl)
theorem dX7_runsOn_65 : decode cX7_runsOn 65 = .ok (.bipush 10, 2) := dk_16 10 (dk_at dksX7_runsOn_2 17 rfl rfl)
theorem dX7_runsOn_67 : decode cX7_runsOn 67 = .ok (.if_icmp .ne 164, 3) := dk_160 0 164 (dk_at dksX7_runsOn_2 19 rfl rfl)
theorem dX7_runsOn_70 : decode cX7_runsOn 70 = .ok (.bipush 10, 2) := dk_16 10 (dk_at dksX7_runsOn_2 22 rfl rfl)
theorem dX7_runsOn_72 : decode cX7_runsOn 72 = .ok (.iload 8, 2) := dk_21 8 (dk_at dksX7_runsOn_3 0 rfl rfl)
theorem dX7_runsOn_74 : decode cX7_runsOn 74 = .ok (.imul, 1) := dk_104 (dk_at dksX7_runsOn_3 2 rfl rfl)
theorem dX7_runsOn_75 : decode cX7_runsOn 75 = .ok (.iload 7, 2) := dk_21 7 (dk_at dksX7_runsOn_3 3 rfl rfl)
theorem dX7_runsOn_77 : decode cX7_runsOn 77 = .ok (.iadd, 1) := dk_96 (dk_at dksX7_runsOn_3 5 rfl rfl)
theorem dX7_runsOn_78 : decode cX7_runsOn 78 = .ok (.istore 9, 2) := dk_54 9 (dk_at dksX7_runsOn_3 6 rfl rfl)
theorem dX7_runsOn_80 : decode cX7_runsOn 80 = .ok (.aload_n 0, 1) := dk_42 (dk_at dksX7_runsOn_3 8 rfl rfl)
theorem dX7_runsOn_81 : decode cX7_runsOn 81 = .ok (.iload_n 1, 1) := dk_27 (dk_at dksX7_runsOn_3 9 rfl rfl)
theorem dX7_runsOn_82 : decode cX7_runsOn 82 = .ok (.iload 9, 2) := dk_21 9 (dk_at dksX7_runsOn_3 10 rfl rfl)
theorem dX7_runsOn_84 : decode cX7_runsOn 84 = .ok (.invokevirtual 139, 3) := dk_182 0 139 (dk_at dksX7_runsOn_3 12 rfl rfl)
theorem dX7_runsOn_87 : decode cX7_runsOn 87 = .ok (.istore 10, 2) := dk_54 10 (dk_at dksX7_runsOn_3 15 rfl rfl)
theorem dX7_runsOn_89 : decode cX7_runsOn 89 = .ok (.aload_n 0, 1) := dk_42 (dk_at dksX7_runsOn_3 17 rfl rfl)
theorem dX7_runsOn_90 : decode cX7_runsOn 90 = .ok (.getfield 25, 3) := dk_180 0 25 (dk_at dksX7_runsOn_3 18 rfl rfl)
theorem dX7_runsOn_93 : decode cX7_runsOn 93 = .ok (.iload 8, 2) := dk_21 8 (dk_at dksX7_runsOn_3 21 rfl rfl)
theorem dX7_runsOn_95 : decode cX7_runsOn 95 = .ok (.iload 7, 2) := dk_21 7 (dk_at dksX7_runsOn_4 0 rfl rfl)
theorem dX7_runsOn_97 : decode cX7_runsOn 97 = .ok (.iastore, 1) := dk_79 (dk_at dksX7_runsOn_4 2 rfl rfl)
theorem dX7_runsOn_98 : decode cX7_runsOn 98 = .ok (.aload_n 0, 1) := dk_42 (dk_at dksX7_runsOn_4 3 rfl rfl)
theorem dX7_runsOn_99 : decode cX7_runsOn 99 = .ok (.iload_n 1, 1) := dk_27 (dk_at dksX7_runsOn_4 4 rfl rfl)
theorem dX7_runsOn_100 : decode cX7_runsOn 100 = .ok (.iload 9, 2) := dk_21 9 (dk_at dksX7_runsOn_4 5 rfl rfl)
theorem dX7_runsOn_102 : decode cX7_runsOn 102 = .ok (.invokevirtual 142, 3) := dk_182 0 142 (dk_at dksX7_runsOn_4 7 rfl rfl)
theorem dX7_runsOn_105 : decode cX7_runsOn 105 = .ok (.bipush (-4), 2) := dk_16 252 (dk_at dksX7_runsOn_4 10 rfl rfl)
theorem dX7_runsOn_107 : decode cX7_runsOn 107 = .ok (.if_icmp .eq 17, 3) := dk_159 0 17 (dk_at dksX7_runsOn_4 12 rfl rfl)
theorem dX7_runsOn_110 : decode cX7_runsOn 110 = .ok (.aload_n 0, 1) := dk_42 (dk_at dksX7_runsOn_4 15 rfl rfl)
theorem dX7_runsOn_111 : decode cX7_runsOn 111 = .ok (.iconst 1, 1) := dk_4 (dk_at dksX7_runsOn_4 16 rfl rfl)
theorem dX7_runsOn_112 : decode cX7_runsOn 112 = .ok (.putfield 154, 3) := dk_181 0 154 (dk_at dksX7_runsOn_4 17 rfl rfl)
theorem dX7_runsOn_115 : decode cX7_runsOn 115 = .ok (.aload_n 0, 1) := dk_42 (dk_at dksX7_runsOn_4 20 rfl rfl)
theorem dX7_runsOn_116 : decode cX7_runsOn 116 = .ok (.iload 8, 2) := dk_21 8 (dk_at dksX7_runsOn_4 21 rfl rfl)
theorem dX7_runsOn_118 : decode cX7_runsOn 118 = .ok (.putfield 148, 3) := dk_181 0 148 (dk_at dksX7_runsOn_5 0 rfl rfl)
theorem dX7_runsOn_121 : decode cX7_runsOn 121 = .ok (.goto 104, 3) := dk_167 0 104 (dk_at dksX7_runsOn_5 3 rfl rfl)
theorem dX7_runsOn_124 : decode cX7_runsOn 124 = .ok (.iload 10, 2) := dk_21 10 (dk_at dksX7_runsOn_5 6 rfl rfl)
theorem dX7_runsOn_126 : decode cX7_runsOn 126 = .ok (.bipush (-4), 2) := dk_16 252 (dk_at dksX7_runsOn_5 8 rfl rfl)
theorem dX7_runsOn_128 : decode cX7_runsOn 128 = .ok (.if_icmp .eq 97, 3) := dk_159 0 97 (dk_at dksX7_runsOn_5 10 rfl rfl)
theorem dX7_runsOn_131 : decode cX7_runsOn 131 = .ok (.aload_n 0, 1) := dk_42 (dk_at dksX7_runsOn_5 13 rfl rfl)
theorem dX7_runsOn_132 : decode cX7_runsOn 132 = .ok (.dup, 1) := dk_89 (dk_at dksX7_runsOn_5 14 rfl rfl)
theorem dX7_runsOn_133 : decode cX7_runsOn 133 = .ok (.getfield 151, 3) := dk_180 0 151 (dk_at dksX7_runsOn_5 15 rfl rfl)
theorem dX7_runsOn_136 : decode cX7_runsOn 136 = .ok (.iconst 1, 1) := dk_4 (dk_at dksX7_runsOn_5 18 rfl rfl)
theorem dX7_runsOn_137 : decode cX7_runsOn 137 = .ok (.iadd, 1) := dk_96 (dk_at dksX7_runsOn_5 19 rfl rfl)
theorem dX7_runsOn_138 : decode cX7_runsOn 138 = .ok (.putfield 151, 3) := dk_181 0 151 (dk_at dksX7_runsOn_5 20 rfl rfl)
theorem dX7_runsOn_141 : decode cX7_runsOn 141 = .ok (.iload 6, 2) := dk_21 6 (dk_at dksX7_runsOn_6 0 rfl rfl)
theorem dX7_runsOn_143 : decode cX7_runsOn 143 = .ok (.iload 5, 2) := dk_21 5 (dk_at dksX7_runsOn_6 2 rfl rfl)
theorem dX7_runsOn_145 : decode cX7_runsOn 145 = .ok (.invokestatic 158, 3) := dk_184 0 158 (dk_at dksX7_runsOn_6 4 rfl rfl)
theorem dX7_runsOn_148 : decode cX7_runsOn 148 = .ok (.isub, 1) := dk_100 (dk_at dksX7_runsOn_6 7 rfl rfl)
theorem dX7_runsOn_149 : decode cX7_runsOn 149 = .ok (.istore 6, 2) := dk_54 6 (dk_at dksX7_runsOn_6 8 rfl rfl)
theorem dX7_runsOn_151 : decode cX7_runsOn 151 = .ok (.iload 6, 2) := dk_21 6 (dk_at dksX7_runsOn_6 10 rfl rfl)
theorem dX7_runsOn_153 : decode cX7_runsOn 153 = .ok (.ifCond .gt 18, 3) := dk_157 0 18 (dk_at dksX7_runsOn_6 12 rfl rfl)
theorem dX7_runsOn_156 : decode cX7_runsOn 156 = .ok (.aload_n 0, 1) := dk_42 (dk_at dksX7_runsOn_6 15 rfl rfl)
theorem dX7_runsOn_157 : decode cX7_runsOn 157 = .ok (.iload 10, 2) := dk_21 10 (dk_at dksX7_runsOn_6 16 rfl rfl)
theorem dX7_runsOn_159 : decode cX7_runsOn 159 = .ok (.putfield 145, 3) := dk_181 0 145 (dk_at dksX7_runsOn_6 18 rfl rfl)
theorem dX7_runsOn_162 : decode cX7_runsOn 162 = .ok (.aload_n 0, 1) := dk_42 (dk_at dksX7_runsOn_6 21 rfl rfl)
theorem dX7_runsOn_163 : decode cX7_runsOn 163 = .ok (.iload 8, 2) := dk_21 8 (dk_at dksX7_runsOn_6 22 rfl rfl)
theorem dX7_runsOn_165 : decode cX7_runsOn 165 = .ok (.putfield 148, 3) := dk_181 0 148 (dk_at dksX7_runsOn_7 0 rfl rfl)
theorem dX7_runsOn_168 : decode cX7_runsOn 168 = .ok (.goto 57, 3) := dk_167 0 57 (dk_at dksX7_runsOn_7 3 rfl rfl)
theorem dX7_runsOn_171 : decode cX7_runsOn 171 = .ok (.iload 7, 2) := dk_21 7 (dk_at dksX7_runsOn_7 6 rfl rfl)
theorem dX7_runsOn_173 : decode cX7_runsOn 173 = .ok (.iload 4, 2) := dk_21 4 (dk_at dksX7_runsOn_7 8 rfl rfl)
theorem dX7_runsOn_175 : decode cX7_runsOn 175 = .ok (.iload 8, 2) := dk_21 8 (dk_at dksX7_runsOn_7 10 rfl rfl)
theorem dX7_runsOn_177 : decode cX7_runsOn 177 = .ok (.ishr, 1) := dk_122 (dk_at dksX7_runsOn_7 12 rfl rfl)
theorem dX7_runsOn_178 : decode cX7_runsOn 178 = .ok (.iconst 1, 1) := dk_4 (dk_at dksX7_runsOn_7 13 rfl rfl)
theorem dX7_runsOn_179 : decode cX7_runsOn 179 = .ok (.iand, 1) := dk_126 (dk_at dksX7_runsOn_7 14 rfl rfl)
theorem dX7_runsOn_180 : decode cX7_runsOn 180 = .ok (.iconst 1, 1) := dk_4 (dk_at dksX7_runsOn_7 15 rfl rfl)
theorem dX7_runsOn_181 : decode cX7_runsOn 181 = .ok (.if_icmp .ne 7, 3) := dk_160 0 7 (dk_at dksX7_runsOn_7 16 rfl rfl)
theorem dX7_runsOn_184 : decode cX7_runsOn 184 = .ok (.iconst (-1), 1) := dk_2 (dk_at dksX7_runsOn_7 19 rfl rfl)
theorem dX7_runsOn_185 : decode cX7_runsOn 185 = .ok (.goto 4, 3) := dk_167 0 4 (dk_at dksX7_runsOn_7 20 rfl rfl)
theorem dX7_runsOn_188 : decode cX7_runsOn 188 = .ok (.iconst 1, 1) := dk_4 (dk_at dksX7_runsOn_7 23 rfl rfl)
theorem dX7_runsOn_189 : decode cX7_runsOn 189 = .ok (.iload 5, 2) := dk_21 5 (dk_at dksX7_runsOn_8 0 rfl rfl)
theorem dX7_runsOn_191 : decode cX7_runsOn 191 = .ok (.iload 8, 2) := dk_21 8 (dk_at dksX7_runsOn_8 2 rfl rfl)
theorem dX7_runsOn_193 : decode cX7_runsOn 193 = .ok (.invokestatic 161, 3) := dk_184 0 161 (dk_at dksX7_runsOn_8 4 rfl rfl)
theorem dX7_runsOn_196 : decode cX7_runsOn 196 = .ok (.imul, 1) := dk_104 (dk_at dksX7_runsOn_8 7 rfl rfl)
theorem dX7_runsOn_197 : decode cX7_runsOn 197 = .ok (.iadd, 1) := dk_96 (dk_at dksX7_runsOn_8 8 rfl rfl)
theorem dX7_runsOn_198 : decode cX7_runsOn 198 = .ok (.istore 11, 2) := dk_54 11 (dk_at dksX7_runsOn_8 9 rfl rfl)
theorem dX7_runsOn_200 : decode cX7_runsOn 200 = .ok (.iload 11, 2) := dk_21 11 (dk_at dksX7_runsOn_8 11 rfl rfl)
theorem dX7_runsOn_202 : decode cX7_runsOn 202 = .ok (.ifCond .ge 7, 3) := dk_156 0 7 (dk_at dksX7_runsOn_8 13 rfl rfl)
theorem dX7_runsOn_205 : decode cX7_runsOn 205 = .ok (.iconst 0, 1) := dk_3 (dk_at dksX7_runsOn_8 16 rfl rfl)
theorem dX7_runsOn_206 : decode cX7_runsOn 206 = .ok (.goto 17, 3) := dk_167 0 17 (dk_at dksX7_runsOn_8 17 rfl rfl)
theorem dX7_runsOn_209 : decode cX7_runsOn 209 = .ok (.iload 11, 2) := dk_21 11 (dk_at dksX7_runsOn_8 20 rfl rfl)
theorem dX7_runsOn_211 : decode cX7_runsOn 211 = .ok (.bipush 8, 2) := dk_16 8 (dk_at dksX7_runsOn_8 22 rfl rfl)
theorem dX7_runsOn_213 : decode cX7_runsOn 213 = .ok (.if_icmp .lt 8, 3) := dk_161 0 8 (dk_at dksX7_runsOn_9 0 rfl rfl)
theorem dX7_runsOn_216 : decode cX7_runsOn 216 = .ok (.bipush 7, 2) := dk_16 7 (dk_at dksX7_runsOn_9 3 rfl rfl)
theorem dX7_runsOn_218 : decode cX7_runsOn 218 = .ok (.goto 5, 3) := dk_167 0 5 (dk_at dksX7_runsOn_9 5 rfl rfl)
theorem dX7_runsOn_221 : decode cX7_runsOn 221 = .ok (.iload 11, 2) := dk_21 11 (dk_at dksX7_runsOn_9 8 rfl rfl)
theorem dX7_runsOn_223 : decode cX7_runsOn 223 = .ok (.istore 7, 2) := dk_54 7 (dk_at dksX7_runsOn_9 10 rfl rfl)
theorem dX7_runsOn_225 : decode cX7_runsOn 225 = .ok (.iinc 8 1, 3) := dk_132 8 1 (dk_at dksX7_runsOn_9 12 rfl rfl)
theorem dX7_runsOn_228 : decode cX7_runsOn 228 = .ok (.goto (-174), 3) := dk_167 255 82 (dk_at dksX7_runsOn_9 15 rfl rfl)
theorem dX7_runsOn_231 : decode cX7_runsOn 231 = .ok (.return_, 1) := dk_177 (dk_at dksX7_runsOn_9 18 rfl rfl)
abbrev cX7_pegOn : ByteArray := prog_11_method_24_code
def yX7_pegOn : MethodName := ⟨RX7, "pegOn", "(II)I"⟩
def dkwX7_pegOn_1 : List UInt8 := [160, 0, 5, 29, 172, 132, 3, 1, 167, 255, 226, 16, 252, 172]
abbrev dktX7_pegOn_1 : List UInt8 := dkwX7_pegOn_1 ++ []
def dkwX7_pegOn_0 : List UInt8 := [3, 62, 29, 42, 180, 0, 7, 27, 16, 38, 96, 46, 162, 0, 23, 42, 180, 0, 7, 27, 29, 96, 46, 28]
abbrev dktX7_pegOn_0 : List UInt8 := dkwX7_pegOn_0 ++ dktX7_pegOn_1
theorem dksX7_pegOn_0 : cX7_pegOn.data.toList.drop 0 = dktX7_pegOn_0 := by decide +kernel
theorem dksX7_pegOn_1 : cX7_pegOn.data.toList.drop 24 = dktX7_pegOn_1 := dk_seg dksX7_pegOn_0 24 rfl rfl
theorem dX7_pegOn_0 : decode cX7_pegOn 0 = .ok (.iconst 0, 1) := dk_3 (dk_at dksX7_pegOn_0 0 rfl rfl)
theorem dX7_pegOn_1 : decode cX7_pegOn 1 = .ok (.istore_n 3, 1) := dk_62 (dk_at dksX7_pegOn_0 1 rfl rfl)
theorem dX7_pegOn_2 : decode cX7_pegOn 2 = .ok (.iload_n 3, 1) := dk_29 (dk_at dksX7_pegOn_0 2 rfl rfl)
theorem dX7_pegOn_3 : decode cX7_pegOn 3 = .ok (.aload_n 0, 1) := dk_42 (dk_at dksX7_pegOn_0 3 rfl rfl)
theorem dX7_pegOn_4 : decode cX7_pegOn 4 = .ok (.getfield 7, 3) := dk_180 0 7 (dk_at dksX7_pegOn_0 4 rfl rfl)
theorem dX7_pegOn_7 : decode cX7_pegOn 7 = .ok (.iload_n 1, 1) := dk_27 (dk_at dksX7_pegOn_0 7 rfl rfl)
theorem dX7_pegOn_8 : decode cX7_pegOn 8 = .ok (.bipush 38, 2) := dk_16 38 (dk_at dksX7_pegOn_0 8 rfl rfl)
theorem dX7_pegOn_10 : decode cX7_pegOn 10 = .ok (.iadd, 1) := dk_96 (dk_at dksX7_pegOn_0 10 rfl rfl)
theorem dX7_pegOn_11 : decode cX7_pegOn 11 = .ok (.iaload, 1) := dk_46 (dk_at dksX7_pegOn_0 11 rfl rfl)
theorem dX7_pegOn_12 : decode cX7_pegOn 12 = .ok (.if_icmp .ge 23, 3) := dk_162 0 23 (dk_at dksX7_pegOn_0 12 rfl rfl)
theorem dX7_pegOn_15 : decode cX7_pegOn 15 = .ok (.aload_n 0, 1) := dk_42 (dk_at dksX7_pegOn_0 15 rfl rfl)
theorem dX7_pegOn_16 : decode cX7_pegOn 16 = .ok (.getfield 7, 3) := dk_180 0 7 (dk_at dksX7_pegOn_0 16 rfl rfl)
theorem dX7_pegOn_19 : decode cX7_pegOn 19 = .ok (.iload_n 1, 1) := dk_27 (dk_at dksX7_pegOn_0 19 rfl rfl)
theorem dX7_pegOn_20 : decode cX7_pegOn 20 = .ok (.iload_n 3, 1) := dk_29 (dk_at dksX7_pegOn_0 20 rfl rfl)
theorem dX7_pegOn_21 : decode cX7_pegOn 21 = .ok (.iadd, 1) := dk_96 (dk_at dksX7_pegOn_0 21 rfl rfl)
theorem dX7_pegOn_22 : decode cX7_pegOn 22 = .ok (.iaload, 1) := dk_46 (dk_at dksX7_pegOn_0 22 rfl rfl)
theorem dX7_pegOn_23 : decode cX7_pegOn 23 = .ok (.iload_n 2, 1) := dk_28 (dk_at dksX7_pegOn_0 23 rfl rfl)
theorem dX7_pegOn_24 : decode cX7_pegOn 24 = .ok (.if_icmp .ne 5, 3) := dk_160 0 5 (dk_at dksX7_pegOn_1 0 rfl rfl)
theorem dX7_pegOn_27 : decode cX7_pegOn 27 = .ok (.iload_n 3, 1) := dk_29 (dk_at dksX7_pegOn_1 3 rfl rfl)
theorem dX7_pegOn_28 : decode cX7_pegOn 28 = .ok (.ireturn, 1) := dk_172 (dk_at dksX7_pegOn_1 4 rfl rfl)
theorem dX7_pegOn_29 : decode cX7_pegOn 29 = .ok (.iinc 3 1, 3) := dk_132 3 1 (dk_at dksX7_pegOn_1 5 rfl rfl)
theorem dX7_pegOn_32 : decode cX7_pegOn 32 = .ok (.goto (-30), 3) := dk_167 255 226 (dk_at dksX7_pegOn_1 8 rfl rfl)
theorem dX7_pegOn_35 : decode cX7_pegOn 35 = .ok (.bipush (-4), 2) := dk_16 252 (dk_at dksX7_pegOn_1 11 rfl rfl)
theorem dX7_pegOn_37 : decode cX7_pegOn 37 = .ok (.ireturn, 1) := dk_172 (dk_at dksX7_pegOn_1 13 rfl rfl)
abbrev cX7_slugOn : ByteArray := prog_11_method_25_code
def yX7_slugOn : MethodName := ⟨RX7, "slugOn", "(II)I"⟩
def dkwX7_slugOn_1 : List UInt8 := [96, 46, 28, 160, 0, 5, 29, 172, 132, 3, 1, 167, 255, 223, 16, 252, 172]
abbrev dktX7_slugOn_1 : List UInt8 := dkwX7_slugOn_1 ++ []
def dkwX7_slugOn_0 : List UInt8 := [3, 62, 29, 42, 180, 0, 7, 27, 16, 39, 96, 46, 162, 0, 26, 42, 180, 0, 7, 27, 16, 14, 96, 29]
abbrev dktX7_slugOn_0 : List UInt8 := dkwX7_slugOn_0 ++ dktX7_slugOn_1
theorem dksX7_slugOn_0 : cX7_slugOn.data.toList.drop 0 = dktX7_slugOn_0 := by decide +kernel
theorem dksX7_slugOn_1 : cX7_slugOn.data.toList.drop 24 = dktX7_slugOn_1 := dk_seg dksX7_slugOn_0 24 rfl rfl
theorem dX7_slugOn_0 : decode cX7_slugOn 0 = .ok (.iconst 0, 1) := dk_3 (dk_at dksX7_slugOn_0 0 rfl rfl)
theorem dX7_slugOn_1 : decode cX7_slugOn 1 = .ok (.istore_n 3, 1) := dk_62 (dk_at dksX7_slugOn_0 1 rfl rfl)
theorem dX7_slugOn_2 : decode cX7_slugOn 2 = .ok (.iload_n 3, 1) := dk_29 (dk_at dksX7_slugOn_0 2 rfl rfl)
theorem dX7_slugOn_3 : decode cX7_slugOn 3 = .ok (.aload_n 0, 1) := dk_42 (dk_at dksX7_slugOn_0 3 rfl rfl)
theorem dX7_slugOn_4 : decode cX7_slugOn 4 = .ok (.getfield 7, 3) := dk_180 0 7 (dk_at dksX7_slugOn_0 4 rfl rfl)
theorem dX7_slugOn_7 : decode cX7_slugOn 7 = .ok (.iload_n 1, 1) := dk_27 (dk_at dksX7_slugOn_0 7 rfl rfl)
theorem dX7_slugOn_8 : decode cX7_slugOn 8 = .ok (.bipush 39, 2) := dk_16 39 (dk_at dksX7_slugOn_0 8 rfl rfl)
theorem dX7_slugOn_10 : decode cX7_slugOn 10 = .ok (.iadd, 1) := dk_96 (dk_at dksX7_slugOn_0 10 rfl rfl)
theorem dX7_slugOn_11 : decode cX7_slugOn 11 = .ok (.iaload, 1) := dk_46 (dk_at dksX7_slugOn_0 11 rfl rfl)
theorem dX7_slugOn_12 : decode cX7_slugOn 12 = .ok (.if_icmp .ge 26, 3) := dk_162 0 26 (dk_at dksX7_slugOn_0 12 rfl rfl)
theorem dX7_slugOn_15 : decode cX7_slugOn 15 = .ok (.aload_n 0, 1) := dk_42 (dk_at dksX7_slugOn_0 15 rfl rfl)
theorem dX7_slugOn_16 : decode cX7_slugOn 16 = .ok (.getfield 7, 3) := dk_180 0 7 (dk_at dksX7_slugOn_0 16 rfl rfl)
theorem dX7_slugOn_19 : decode cX7_slugOn 19 = .ok (.iload_n 1, 1) := dk_27 (dk_at dksX7_slugOn_0 19 rfl rfl)
theorem dX7_slugOn_20 : decode cX7_slugOn 20 = .ok (.bipush 14, 2) := dk_16 14 (dk_at dksX7_slugOn_0 20 rfl rfl)
theorem dX7_slugOn_22 : decode cX7_slugOn 22 = .ok (.iadd, 1) := dk_96 (dk_at dksX7_slugOn_0 22 rfl rfl)
theorem dX7_slugOn_23 : decode cX7_slugOn 23 = .ok (.iload_n 3, 1) := dk_29 (dk_at dksX7_slugOn_0 23 rfl rfl)
theorem dX7_slugOn_24 : decode cX7_slugOn 24 = .ok (.iadd, 1) := dk_96 (dk_at dksX7_slugOn_1 0 rfl rfl)
theorem dX7_slugOn_25 : decode cX7_slugOn 25 = .ok (.iaload, 1) := dk_46 (dk_at dksX7_slugOn_1 1 rfl rfl)
theorem dX7_slugOn_26 : decode cX7_slugOn 26 = .ok (.iload_n 2, 1) := dk_28 (dk_at dksX7_slugOn_1 2 rfl rfl)
theorem dX7_slugOn_27 : decode cX7_slugOn 27 = .ok (.if_icmp .ne 5, 3) := dk_160 0 5 (dk_at dksX7_slugOn_1 3 rfl rfl)
theorem dX7_slugOn_30 : decode cX7_slugOn 30 = .ok (.iload_n 3, 1) := dk_29 (dk_at dksX7_slugOn_1 6 rfl rfl)
theorem dX7_slugOn_31 : decode cX7_slugOn 31 = .ok (.ireturn, 1) := dk_172 (dk_at dksX7_slugOn_1 7 rfl rfl)
theorem dX7_slugOn_32 : decode cX7_slugOn 32 = .ok (.iinc 3 1, 3) := dk_132 3 1 (dk_at dksX7_slugOn_1 8 rfl rfl)
theorem dX7_slugOn_35 : decode cX7_slugOn 35 = .ok (.goto (-33), 3) := dk_167 255 223 (dk_at dksX7_slugOn_1 11 rfl rfl)
theorem dX7_slugOn_38 : decode cX7_slugOn 38 = .ok (.bipush (-4), 2) := dk_16 252 (dk_at dksX7_slugOn_1 14 rfl rfl)
theorem dX7_slugOn_40 : decode cX7_slugOn 40 = .ok (.ireturn, 1) := dk_172 (dk_at dksX7_slugOn_1 16 rfl rfl)
abbrev cX7_losesOf : ByteArray := prog_11_method_27_code
def yX7_losesOf : MethodName := ⟨RX7, "losesOf", "(I)I"⟩
def dkwX7_losesOf_1 : List UInt8 := [167, 0, 5, 16, 6, 172]
abbrev dktX7_losesOf_1 : List UInt8 := dkwX7_losesOf_1 ++ []
def dkwX7_losesOf_0 : List UInt8 := [26, 154, 0, 7, 5, 167, 0, 23, 26, 4, 160, 0, 7, 6, 167, 0, 14, 26, 5, 160, 0, 7, 4]
abbrev dktX7_losesOf_0 : List UInt8 := dkwX7_losesOf_0 ++ dktX7_losesOf_1
theorem dksX7_losesOf_0 : cX7_losesOf.data.toList.drop 0 = dktX7_losesOf_0 := by decide +kernel
theorem dksX7_losesOf_1 : cX7_losesOf.data.toList.drop 23 = dktX7_losesOf_1 := dk_seg dksX7_losesOf_0 23 rfl rfl
theorem dX7_losesOf_0 : decode cX7_losesOf 0 = .ok (.iload_n 0, 1) := dk_26 (dk_at dksX7_losesOf_0 0 rfl rfl)
theorem dX7_losesOf_1 : decode cX7_losesOf 1 = .ok (.ifCond .ne 7, 3) := dk_154 0 7 (dk_at dksX7_losesOf_0 1 rfl rfl)
theorem dX7_losesOf_4 : decode cX7_losesOf 4 = .ok (.iconst 2, 1) := dk_5 (dk_at dksX7_losesOf_0 4 rfl rfl)
theorem dX7_losesOf_5 : decode cX7_losesOf 5 = .ok (.goto 23, 3) := dk_167 0 23 (dk_at dksX7_losesOf_0 5 rfl rfl)
theorem dX7_losesOf_8 : decode cX7_losesOf 8 = .ok (.iload_n 0, 1) := dk_26 (dk_at dksX7_losesOf_0 8 rfl rfl)
theorem dX7_losesOf_9 : decode cX7_losesOf 9 = .ok (.iconst 1, 1) := dk_4 (dk_at dksX7_losesOf_0 9 rfl rfl)
theorem dX7_losesOf_10 : decode cX7_losesOf 10 = .ok (.if_icmp .ne 7, 3) := dk_160 0 7 (dk_at dksX7_losesOf_0 10 rfl rfl)
theorem dX7_losesOf_13 : decode cX7_losesOf 13 = .ok (.iconst 3, 1) := dk_6 (dk_at dksX7_losesOf_0 13 rfl rfl)
theorem dX7_losesOf_14 : decode cX7_losesOf 14 = .ok (.goto 14, 3) := dk_167 0 14 (dk_at dksX7_losesOf_0 14 rfl rfl)
theorem dX7_losesOf_17 : decode cX7_losesOf 17 = .ok (.iload_n 0, 1) := dk_26 (dk_at dksX7_losesOf_0 17 rfl rfl)
theorem dX7_losesOf_18 : decode cX7_losesOf 18 = .ok (.iconst 2, 1) := dk_5 (dk_at dksX7_losesOf_0 18 rfl rfl)
theorem dX7_losesOf_19 : decode cX7_losesOf 19 = .ok (.if_icmp .ne 7, 3) := dk_160 0 7 (dk_at dksX7_losesOf_0 19 rfl rfl)
theorem dX7_losesOf_22 : decode cX7_losesOf 22 = .ok (.iconst 1, 1) := dk_4 (dk_at dksX7_losesOf_0 22 rfl rfl)
theorem dX7_losesOf_23 : decode cX7_losesOf 23 = .ok (.goto 5, 3) := dk_167 0 5 (dk_at dksX7_losesOf_1 0 rfl rfl)
theorem dX7_losesOf_26 : decode cX7_losesOf 26 = .ok (.bipush 6, 2) := dk_16 6 (dk_at dksX7_losesOf_1 3 rfl rfl)
theorem dX7_losesOf_28 : decode cX7_losesOf 28 = .ok (.ireturn, 1) := dk_172 (dk_at dksX7_losesOf_1 5 rfl rfl)
abbrev cX7_turnOf : ByteArray := prog_11_method_28_code
def yX7_turnOf : MethodName := ⟨RX7, "turnOf", "(II)I"⟩
def dkwX7_turnOf_1 : List UInt8 := [160, 0, 8, 28, 116, 167, 0, 16, 26, 5, 160, 0, 7, 4, 167, 0, 7, 16, 254, 28, 104, 172]
abbrev dktX7_turnOf_1 : List UInt8 := dkwX7_turnOf_1 ++ []
def dkwX7_turnOf_0 : List UInt8 := [27, 5, 112, 154, 0, 7, 2, 167, 0, 4, 4, 61, 26, 154, 0, 7, 28, 167, 0, 26, 26, 4]
abbrev dktX7_turnOf_0 : List UInt8 := dkwX7_turnOf_0 ++ dktX7_turnOf_1
theorem dksX7_turnOf_0 : cX7_turnOf.data.toList.drop 0 = dktX7_turnOf_0 := by decide +kernel
theorem dksX7_turnOf_1 : cX7_turnOf.data.toList.drop 22 = dktX7_turnOf_1 := dk_seg dksX7_turnOf_0 22 rfl rfl
theorem dX7_turnOf_0 : decode cX7_turnOf 0 = .ok (.iload_n 1, 1) := dk_27 (dk_at dksX7_turnOf_0 0 rfl rfl)
theorem dX7_turnOf_1 : decode cX7_turnOf 1 = .ok (.iconst 2, 1) := dk_5 (dk_at dksX7_turnOf_0 1 rfl rfl)
theorem dX7_turnOf_2 : decode cX7_turnOf 2 = .ok (.irem, 1) := dk_112 (dk_at dksX7_turnOf_0 2 rfl rfl)
theorem dX7_turnOf_3 : decode cX7_turnOf 3 = .ok (.ifCond .ne 7, 3) := dk_154 0 7 (dk_at dksX7_turnOf_0 3 rfl rfl)
theorem dX7_turnOf_6 : decode cX7_turnOf 6 = .ok (.iconst (-1), 1) := dk_2 (dk_at dksX7_turnOf_0 6 rfl rfl)
theorem dX7_turnOf_7 : decode cX7_turnOf 7 = .ok (.goto 4, 3) := dk_167 0 4 (dk_at dksX7_turnOf_0 7 rfl rfl)
theorem dX7_turnOf_10 : decode cX7_turnOf 10 = .ok (.iconst 1, 1) := dk_4 (dk_at dksX7_turnOf_0 10 rfl rfl)
theorem dX7_turnOf_11 : decode cX7_turnOf 11 = .ok (.istore_n 2, 1) := dk_61 (dk_at dksX7_turnOf_0 11 rfl rfl)
theorem dX7_turnOf_12 : decode cX7_turnOf 12 = .ok (.iload_n 0, 1) := dk_26 (dk_at dksX7_turnOf_0 12 rfl rfl)
theorem dX7_turnOf_13 : decode cX7_turnOf 13 = .ok (.ifCond .ne 7, 3) := dk_154 0 7 (dk_at dksX7_turnOf_0 13 rfl rfl)
theorem dX7_turnOf_16 : decode cX7_turnOf 16 = .ok (.iload_n 2, 1) := dk_28 (dk_at dksX7_turnOf_0 16 rfl rfl)
theorem dX7_turnOf_17 : decode cX7_turnOf 17 = .ok (.goto 26, 3) := dk_167 0 26 (dk_at dksX7_turnOf_0 17 rfl rfl)
theorem dX7_turnOf_20 : decode cX7_turnOf 20 = .ok (.iload_n 0, 1) := dk_26 (dk_at dksX7_turnOf_0 20 rfl rfl)
theorem dX7_turnOf_21 : decode cX7_turnOf 21 = .ok (.iconst 1, 1) := dk_4 (dk_at dksX7_turnOf_0 21 rfl rfl)
theorem dX7_turnOf_22 : decode cX7_turnOf 22 = .ok (.if_icmp .ne 8, 3) := dk_160 0 8 (dk_at dksX7_turnOf_1 0 rfl rfl)
theorem dX7_turnOf_25 : decode cX7_turnOf 25 = .ok (.iload_n 2, 1) := dk_28 (dk_at dksX7_turnOf_1 3 rfl rfl)
theorem dX7_turnOf_26 : decode cX7_turnOf 26 = .ok (.ineg, 1) := dk_116 (dk_at dksX7_turnOf_1 4 rfl rfl)
theorem dX7_turnOf_27 : decode cX7_turnOf 27 = .ok (.goto 16, 3) := dk_167 0 16 (dk_at dksX7_turnOf_1 5 rfl rfl)
theorem dX7_turnOf_30 : decode cX7_turnOf 30 = .ok (.iload_n 0, 1) := dk_26 (dk_at dksX7_turnOf_1 8 rfl rfl)
theorem dX7_turnOf_31 : decode cX7_turnOf 31 = .ok (.iconst 2, 1) := dk_5 (dk_at dksX7_turnOf_1 9 rfl rfl)
theorem dX7_turnOf_32 : decode cX7_turnOf 32 = .ok (.if_icmp .ne 7, 3) := dk_160 0 7 (dk_at dksX7_turnOf_1 10 rfl rfl)
theorem dX7_turnOf_35 : decode cX7_turnOf 35 = .ok (.iconst 1, 1) := dk_4 (dk_at dksX7_turnOf_1 13 rfl rfl)
theorem dX7_turnOf_36 : decode cX7_turnOf 36 = .ok (.goto 7, 3) := dk_167 0 7 (dk_at dksX7_turnOf_1 14 rfl rfl)
theorem dX7_turnOf_39 : decode cX7_turnOf 39 = .ok (.bipush (-2), 2) := dk_16 254 (dk_at dksX7_turnOf_1 17 rfl rfl)
theorem dX7_turnOf_41 : decode cX7_turnOf 41 = .ok (.iload_n 2, 1) := dk_28 (dk_at dksX7_turnOf_1 19 rfl rfl)
theorem dX7_turnOf_42 : decode cX7_turnOf 42 = .ok (.imul, 1) := dk_104 (dk_at dksX7_turnOf_1 20 rfl rfl)
theorem dX7_turnOf_43 : decode cX7_turnOf 43 = .ok (.ireturn, 1) := dk_172 (dk_at dksX7_turnOf_1 21 rfl rfl)
abbrev cX7_winsOn : ByteArray := prog_11_method_31_code
def yX7_winsOn : MethodName := ⟨RX7, "winsOn", "(II)I"⟩
def dkwX7_winsOn_3 : List UInt8 := [160, 0, 10, 4, 21, 4, 120, 167, 0, 4, 3, 128, 62, 132, 4, 1, 167, 255, 178, 29, 172]
abbrev dktX7_winsOn_3 : List UInt8 := dkwX7_winsOn_3 ++ []
def dkwX7_winsOn_2 : List UInt8 := [182, 0, 168, 54, 5, 29, 21, 5, 16, 252, 159, 0, 22, 28, 16, 252, 159, 0, 9, 21, 5, 28]
abbrev dktX7_winsOn_2 : List UInt8 := dkwX7_winsOn_2 ++ dktX7_winsOn_3
def dkwX7_winsOn_1 : List UInt8 := [180, 0, 7, 27, 16, 26, 96, 21, 4, 96, 46, 42, 180, 0, 7, 27, 16, 32, 96, 21, 4, 96, 46]
abbrev dktX7_winsOn_1 : List UInt8 := dkwX7_winsOn_1 ++ dktX7_winsOn_2
def dkwX7_winsOn_0 : List UInt8 := [3, 62, 3, 54, 4, 21, 4, 42, 180, 0, 7, 27, 16, 40, 96, 46, 162, 0, 70, 42, 27, 42]
abbrev dktX7_winsOn_0 : List UInt8 := dkwX7_winsOn_0 ++ dktX7_winsOn_1
theorem dksX7_winsOn_0 : cX7_winsOn.data.toList.drop 0 = dktX7_winsOn_0 := by decide +kernel
theorem dksX7_winsOn_1 : cX7_winsOn.data.toList.drop 22 = dktX7_winsOn_1 := dk_seg dksX7_winsOn_0 22 rfl rfl
theorem dksX7_winsOn_2 : cX7_winsOn.data.toList.drop 45 = dktX7_winsOn_2 := dk_seg dksX7_winsOn_1 23 rfl rfl
theorem dksX7_winsOn_3 : cX7_winsOn.data.toList.drop 67 = dktX7_winsOn_3 := dk_seg dksX7_winsOn_2 22 rfl rfl
theorem dX7_winsOn_0 : decode cX7_winsOn 0 = .ok (.iconst 0, 1) := dk_3 (dk_at dksX7_winsOn_0 0 rfl rfl)
theorem dX7_winsOn_1 : decode cX7_winsOn 1 = .ok (.istore_n 3, 1) := dk_62 (dk_at dksX7_winsOn_0 1 rfl rfl)
theorem dX7_winsOn_2 : decode cX7_winsOn 2 = .ok (.iconst 0, 1) := dk_3 (dk_at dksX7_winsOn_0 2 rfl rfl)
theorem dX7_winsOn_3 : decode cX7_winsOn 3 = .ok (.istore 4, 2) := dk_54 4 (dk_at dksX7_winsOn_0 3 rfl rfl)
theorem dX7_winsOn_5 : decode cX7_winsOn 5 = .ok (.iload 4, 2) := dk_21 4 (dk_at dksX7_winsOn_0 5 rfl rfl)
theorem dX7_winsOn_7 : decode cX7_winsOn 7 = .ok (.aload_n 0, 1) := dk_42 (dk_at dksX7_winsOn_0 7 rfl rfl)
theorem dX7_winsOn_8 : decode cX7_winsOn 8 = .ok (.getfield 7, 3) := dk_180 0 7 (dk_at dksX7_winsOn_0 8 rfl rfl)
theorem dX7_winsOn_11 : decode cX7_winsOn 11 = .ok (.iload_n 1, 1) := dk_27 (dk_at dksX7_winsOn_0 11 rfl rfl)
theorem dX7_winsOn_12 : decode cX7_winsOn 12 = .ok (.bipush 40, 2) := dk_16 40 (dk_at dksX7_winsOn_0 12 rfl rfl)
theorem dX7_winsOn_14 : decode cX7_winsOn 14 = .ok (.iadd, 1) := dk_96 (dk_at dksX7_winsOn_0 14 rfl rfl)
theorem dX7_winsOn_15 : decode cX7_winsOn 15 = .ok (.iaload, 1) := dk_46 (dk_at dksX7_winsOn_0 15 rfl rfl)
theorem dX7_winsOn_16 : decode cX7_winsOn 16 = .ok (.if_icmp .ge 70, 3) := dk_162 0 70 (dk_at dksX7_winsOn_0 16 rfl rfl)
theorem dX7_winsOn_19 : decode cX7_winsOn 19 = .ok (.aload_n 0, 1) := dk_42 (dk_at dksX7_winsOn_0 19 rfl rfl)
theorem dX7_winsOn_20 : decode cX7_winsOn 20 = .ok (.iload_n 1, 1) := dk_27 (dk_at dksX7_winsOn_0 20 rfl rfl)
theorem dX7_winsOn_21 : decode cX7_winsOn 21 = .ok (.aload_n 0, 1) := dk_42 (dk_at dksX7_winsOn_0 21 rfl rfl)
theorem dX7_winsOn_22 : decode cX7_winsOn 22 = .ok (.getfield 7, 3) := dk_180 0 7 (dk_at dksX7_winsOn_1 0 rfl rfl)
theorem dX7_winsOn_25 : decode cX7_winsOn 25 = .ok (.iload_n 1, 1) := dk_27 (dk_at dksX7_winsOn_1 3 rfl rfl)
theorem dX7_winsOn_26 : decode cX7_winsOn 26 = .ok (.bipush 26, 2) := dk_16 26 (dk_at dksX7_winsOn_1 4 rfl rfl)
theorem dX7_winsOn_28 : decode cX7_winsOn 28 = .ok (.iadd, 1) := dk_96 (dk_at dksX7_winsOn_1 6 rfl rfl)
theorem dX7_winsOn_29 : decode cX7_winsOn 29 = .ok (.iload 4, 2) := dk_21 4 (dk_at dksX7_winsOn_1 7 rfl rfl)
theorem dX7_winsOn_31 : decode cX7_winsOn 31 = .ok (.iadd, 1) := dk_96 (dk_at dksX7_winsOn_1 9 rfl rfl)
theorem dX7_winsOn_32 : decode cX7_winsOn 32 = .ok (.iaload, 1) := dk_46 (dk_at dksX7_winsOn_1 10 rfl rfl)
theorem dX7_winsOn_33 : decode cX7_winsOn 33 = .ok (.aload_n 0, 1) := dk_42 (dk_at dksX7_winsOn_1 11 rfl rfl)
theorem dX7_winsOn_34 : decode cX7_winsOn 34 = .ok (.getfield 7, 3) := dk_180 0 7 (dk_at dksX7_winsOn_1 12 rfl rfl)
theorem dX7_winsOn_37 : decode cX7_winsOn 37 = .ok (.iload_n 1, 1) := dk_27 (dk_at dksX7_winsOn_1 15 rfl rfl)
theorem dX7_winsOn_38 : decode cX7_winsOn 38 = .ok (.bipush 32, 2) := dk_16 32 (dk_at dksX7_winsOn_1 16 rfl rfl)
theorem dX7_winsOn_40 : decode cX7_winsOn 40 = .ok (.iadd, 1) := dk_96 (dk_at dksX7_winsOn_1 18 rfl rfl)
theorem dX7_winsOn_41 : decode cX7_winsOn 41 = .ok (.iload 4, 2) := dk_21 4 (dk_at dksX7_winsOn_1 19 rfl rfl)
theorem dX7_winsOn_43 : decode cX7_winsOn 43 = .ok (.iadd, 1) := dk_96 (dk_at dksX7_winsOn_1 21 rfl rfl)
theorem dX7_winsOn_44 : decode cX7_winsOn 44 = .ok (.iaload, 1) := dk_46 (dk_at dksX7_winsOn_1 22 rfl rfl)
theorem dX7_winsOn_45 : decode cX7_winsOn 45 = .ok (.invokevirtual 168, 3) := dk_182 0 168 (dk_at dksX7_winsOn_2 0 rfl rfl)
theorem dX7_winsOn_48 : decode cX7_winsOn 48 = .ok (.istore 5, 2) := dk_54 5 (dk_at dksX7_winsOn_2 3 rfl rfl)
theorem dX7_winsOn_50 : decode cX7_winsOn 50 = .ok (.iload_n 3, 1) := dk_29 (dk_at dksX7_winsOn_2 5 rfl rfl)
theorem dX7_winsOn_51 : decode cX7_winsOn 51 = .ok (.iload 5, 2) := dk_21 5 (dk_at dksX7_winsOn_2 6 rfl rfl)
theorem dX7_winsOn_53 : decode cX7_winsOn 53 = .ok (.bipush (-4), 2) := dk_16 252 (dk_at dksX7_winsOn_2 8 rfl rfl)
theorem dX7_winsOn_55 : decode cX7_winsOn 55 = .ok (.if_icmp .eq 22, 3) := dk_159 0 22 (dk_at dksX7_winsOn_2 10 rfl rfl)
theorem dX7_winsOn_58 : decode cX7_winsOn 58 = .ok (.iload_n 2, 1) := dk_28 (dk_at dksX7_winsOn_2 13 rfl rfl)
theorem dX7_winsOn_59 : decode cX7_winsOn 59 = .ok (.bipush (-4), 2) := dk_16 252 (dk_at dksX7_winsOn_2 14 rfl rfl)
theorem dX7_winsOn_61 : decode cX7_winsOn 61 = .ok (.if_icmp .eq 9, 3) := dk_159 0 9 (dk_at dksX7_winsOn_2 16 rfl rfl)
theorem dX7_winsOn_64 : decode cX7_winsOn 64 = .ok (.iload 5, 2) := dk_21 5 (dk_at dksX7_winsOn_2 19 rfl rfl)
theorem dX7_winsOn_66 : decode cX7_winsOn 66 = .ok (.iload_n 2, 1) := dk_28 (dk_at dksX7_winsOn_2 21 rfl rfl)
theorem dX7_winsOn_67 : decode cX7_winsOn 67 = .ok (.if_icmp .ne 10, 3) := dk_160 0 10 (dk_at dksX7_winsOn_3 0 rfl rfl)
theorem dX7_winsOn_70 : decode cX7_winsOn 70 = .ok (.iconst 1, 1) := dk_4 (dk_at dksX7_winsOn_3 3 rfl rfl)
theorem dX7_winsOn_71 : decode cX7_winsOn 71 = .ok (.iload 4, 2) := dk_21 4 (dk_at dksX7_winsOn_3 4 rfl rfl)
theorem dX7_winsOn_73 : decode cX7_winsOn 73 = .ok (.ishl, 1) := dk_120 (dk_at dksX7_winsOn_3 6 rfl rfl)
theorem dX7_winsOn_74 : decode cX7_winsOn 74 = .ok (.goto 4, 3) := dk_167 0 4 (dk_at dksX7_winsOn_3 7 rfl rfl)
theorem dX7_winsOn_77 : decode cX7_winsOn 77 = .ok (.iconst 0, 1) := dk_3 (dk_at dksX7_winsOn_3 10 rfl rfl)
theorem dX7_winsOn_78 : decode cX7_winsOn 78 = .ok (.ior, 1) := dk_128 (dk_at dksX7_winsOn_3 11 rfl rfl)
theorem dX7_winsOn_79 : decode cX7_winsOn 79 = .ok (.istore_n 3, 1) := dk_62 (dk_at dksX7_winsOn_3 12 rfl rfl)
theorem dX7_winsOn_80 : decode cX7_winsOn 80 = .ok (.iinc 4 1, 3) := dk_132 4 1 (dk_at dksX7_winsOn_3 13 rfl rfl)
theorem dX7_winsOn_83 : decode cX7_winsOn 83 = .ok (.goto (-78), 3) := dk_167 255 178 (dk_at dksX7_winsOn_3 16 rfl rfl)
theorem dX7_winsOn_86 : decode cX7_winsOn 86 = .ok (.iload_n 3, 1) := dk_29 (dk_at dksX7_winsOn_3 19 rfl rfl)
theorem dX7_winsOn_87 : decode cX7_winsOn 87 = .ok (.ireturn, 1) := dk_172 (dk_at dksX7_winsOn_3 20 rfl rfl)
abbrev cX7_winnerOn : ByteArray := prog_11_method_30_code
def yX7_winnerOn : MethodName := ⟨RX7, "winnerOn", "(III)I"⟩
def dkwX7_winnerOn_1 : List UInt8 := [180, 0, 7, 27, 16, 7, 96, 42, 180, 0, 145, 96, 46, 172]
abbrev dktX7_winnerOn_1 : List UInt8 := dkwX7_winnerOn_1 ++ []
def dkwX7_winnerOn_0 : List UInt8 := [42, 27, 28, 29, 3, 182, 0, 164, 42, 180, 0, 145, 16, 252, 160, 0, 8, 16, 252, 167, 0, 17, 42]
abbrev dktX7_winnerOn_0 : List UInt8 := dkwX7_winnerOn_0 ++ dktX7_winnerOn_1
theorem dksX7_winnerOn_0 : cX7_winnerOn.data.toList.drop 0 = dktX7_winnerOn_0 := by decide +kernel
theorem dksX7_winnerOn_1 : cX7_winnerOn.data.toList.drop 23 = dktX7_winnerOn_1 := dk_seg dksX7_winnerOn_0 23 rfl rfl
theorem dX7_winnerOn_0 : decode cX7_winnerOn 0 = .ok (.aload_n 0, 1) := dk_42 (dk_at dksX7_winnerOn_0 0 rfl rfl)
theorem dX7_winnerOn_1 : decode cX7_winnerOn 1 = .ok (.iload_n 1, 1) := dk_27 (dk_at dksX7_winnerOn_0 1 rfl rfl)
theorem dX7_winnerOn_2 : decode cX7_winnerOn 2 = .ok (.iload_n 2, 1) := dk_28 (dk_at dksX7_winnerOn_0 2 rfl rfl)
theorem dX7_winnerOn_3 : decode cX7_winnerOn 3 = .ok (.iload_n 3, 1) := dk_29 (dk_at dksX7_winnerOn_0 3 rfl rfl)
theorem dX7_winnerOn_4 : decode cX7_winnerOn 4 = .ok (.iconst 0, 1) := dk_3 (dk_at dksX7_winnerOn_0 4 rfl rfl)
theorem dX7_winnerOn_5 : decode cX7_winnerOn 5 = .ok (.invokevirtual 164, 3) := dk_182 0 164 (dk_at dksX7_winnerOn_0 5 rfl rfl)
theorem dX7_winnerOn_8 : decode cX7_winnerOn 8 = .ok (.aload_n 0, 1) := dk_42 (dk_at dksX7_winnerOn_0 8 rfl rfl)
theorem dX7_winnerOn_9 : decode cX7_winnerOn 9 = .ok (.getfield 145, 3) := dk_180 0 145 (dk_at dksX7_winnerOn_0 9 rfl rfl)
theorem dX7_winnerOn_12 : decode cX7_winnerOn 12 = .ok (.bipush (-4), 2) := dk_16 252 (dk_at dksX7_winnerOn_0 12 rfl rfl)
theorem dX7_winnerOn_14 : decode cX7_winnerOn 14 = .ok (.if_icmp .ne 8, 3) := dk_160 0 8 (dk_at dksX7_winnerOn_0 14 rfl rfl)
theorem dX7_winnerOn_17 : decode cX7_winnerOn 17 = .ok (.bipush (-4), 2) := dk_16 252 (dk_at dksX7_winnerOn_0 17 rfl rfl)
theorem dX7_winnerOn_19 : decode cX7_winnerOn 19 = .ok (.goto 17, 3) := dk_167 0 17 (dk_at dksX7_winnerOn_0 19 rfl rfl)
theorem dX7_winnerOn_22 : decode cX7_winnerOn 22 = .ok (.aload_n 0, 1) := dk_42 (dk_at dksX7_winnerOn_0 22 rfl rfl)
theorem dX7_winnerOn_23 : decode cX7_winnerOn 23 = .ok (.getfield 7, 3) := dk_180 0 7 (dk_at dksX7_winnerOn_1 0 rfl rfl)
theorem dX7_winnerOn_26 : decode cX7_winnerOn 26 = .ok (.iload_n 1, 1) := dk_27 (dk_at dksX7_winnerOn_1 3 rfl rfl)
theorem dX7_winnerOn_27 : decode cX7_winnerOn 27 = .ok (.bipush 7, 2) := dk_16 7 (dk_at dksX7_winnerOn_1 4 rfl rfl)
theorem dX7_winnerOn_29 : decode cX7_winnerOn 29 = .ok (.iadd, 1) := dk_96 (dk_at dksX7_winnerOn_1 6 rfl rfl)
theorem dX7_winnerOn_30 : decode cX7_winnerOn 30 = .ok (.aload_n 0, 1) := dk_42 (dk_at dksX7_winnerOn_1 7 rfl rfl)
theorem dX7_winnerOn_31 : decode cX7_winnerOn 31 = .ok (.getfield 145, 3) := dk_180 0 145 (dk_at dksX7_winnerOn_1 8 rfl rfl)
theorem dX7_winnerOn_34 : decode cX7_winnerOn 34 = .ok (.iadd, 1) := dk_96 (dk_at dksX7_winnerOn_1 11 rfl rfl)
theorem dX7_winnerOn_35 : decode cX7_winnerOn 35 = .ok (.iaload, 1) := dk_46 (dk_at dksX7_winnerOn_1 12 rfl rfl)
theorem dX7_winnerOn_36 : decode cX7_winnerOn 36 = .ok (.ireturn, 1) := dk_172 (dk_at dksX7_winnerOn_1 13 rfl rfl)
abbrev cX7_peg : ByteArray := prog_11_method_34_code
def yX7_peg : MethodName := ⟨RX7, "peg", "(II)I"⟩
def dkwX7_peg_4 : List UInt8 := [42, 180, 0, 7, 16, 7, 28, 104, 27, 96, 46, 167, 0, 4, 29, 172]
abbrev dktX7_peg_4 : List UInt8 := dkwX7_peg_4 ++ []
def dkwX7_peg_3 : List UInt8 := [160, 0, 10, 4, 21, 4, 120, 167, 0, 4, 3, 128, 62, 132, 4, 1, 167, 255, 196, 28, 5, 162, 0, 17]
abbrev dktX7_peg_3 : List UInt8 := dkwX7_peg_3 ++ dktX7_peg_4
def dkwX7_peg_2 : List UInt8 := [21, 4, 96, 46, 42, 180, 0, 7, 16, 32, 21, 4, 96, 46, 3, 182, 0, 164, 29, 42, 180, 0, 145, 27]
abbrev dktX7_peg_2 : List UInt8 := dkwX7_peg_2 ++ dktX7_peg_3
def dkwX7_peg_1 : List UInt8 := [3, 54, 4, 21, 4, 42, 180, 0, 7, 16, 40, 46, 162, 0, 54, 42, 3, 42, 180, 0, 7, 16, 26]
abbrev dktX7_peg_1 : List UInt8 := dkwX7_peg_1 ++ dktX7_peg_2
def dkwX7_peg_0 : List UInt8 := [42, 27, 182, 0, 175, 153, 0, 15, 28, 133, 9, 20, 0, 178, 184, 0, 49, 154, 0, 5, 2, 172, 3, 62]
abbrev dktX7_peg_0 : List UInt8 := dkwX7_peg_0 ++ dktX7_peg_1
theorem dksX7_peg_0 : cX7_peg.data.toList.drop 0 = dktX7_peg_0 := by decide +kernel
theorem dksX7_peg_1 : cX7_peg.data.toList.drop 24 = dktX7_peg_1 := dk_seg dksX7_peg_0 24 rfl rfl
theorem dksX7_peg_2 : cX7_peg.data.toList.drop 47 = dktX7_peg_2 := dk_seg dksX7_peg_1 23 rfl rfl
theorem dksX7_peg_3 : cX7_peg.data.toList.drop 71 = dktX7_peg_3 := dk_seg dksX7_peg_2 24 rfl rfl
theorem dksX7_peg_4 : cX7_peg.data.toList.drop 95 = dktX7_peg_4 := dk_seg dksX7_peg_3 24 rfl rfl
theorem dX7_peg_0 : decode cX7_peg 0 = .ok (.aload_n 0, 1) := dk_42 (dk_at dksX7_peg_0 0 rfl rfl)
theorem dX7_peg_1 : decode cX7_peg 1 = .ok (.iload_n 1, 1) := dk_27 (dk_at dksX7_peg_0 1 rfl rfl)
theorem dX7_peg_2 : decode cX7_peg 2 = .ok (.invokevirtual 175, 3) := dk_182 0 175 (dk_at dksX7_peg_0 2 rfl rfl)
theorem dX7_peg_5 : decode cX7_peg 5 = .ok (.ifCond .eq 15, 3) := dk_153 0 15 (dk_at dksX7_peg_0 5 rfl rfl)
theorem dX7_peg_8 : decode cX7_peg 8 = .ok (.iload_n 2, 1) := dk_28 (dk_at dksX7_peg_0 8 rfl rfl)
theorem dX7_peg_9 : decode cX7_peg 9 = .ok (.i2l, 1) := dk_133 (dk_at dksX7_peg_0 9 rfl rfl)
theorem dX7_peg_10 : decode cX7_peg 10 = .ok (.lconst 0, 1) := dk_9 (dk_at dksX7_peg_0 10 rfl rfl)
theorem dX7_peg_11 : decode cX7_peg 11 = .ok (.ldc2_w 178, 3) := dk_20 0 178 (dk_at dksX7_peg_0 11 rfl rfl)
theorem dX7_peg_14 : decode cX7_peg 14 = .ok (.invokestatic 49, 3) := dk_184 0 49 (dk_at dksX7_peg_0 14 rfl rfl)
theorem dX7_peg_17 : decode cX7_peg 17 = .ok (.ifCond .ne 5, 3) := dk_154 0 5 (dk_at dksX7_peg_0 17 rfl rfl)
theorem dX7_peg_20 : decode cX7_peg 20 = .ok (.iconst (-1), 1) := dk_2 (dk_at dksX7_peg_0 20 rfl rfl)
theorem dX7_peg_21 : decode cX7_peg 21 = .ok (.ireturn, 1) := dk_172 (dk_at dksX7_peg_0 21 rfl rfl)
theorem dX7_peg_22 : decode cX7_peg 22 = .ok (.iconst 0, 1) := dk_3 (dk_at dksX7_peg_0 22 rfl rfl)
theorem dX7_peg_23 : decode cX7_peg 23 = .ok (.istore_n 3, 1) := dk_62 (dk_at dksX7_peg_0 23 rfl rfl)
theorem dX7_peg_24 : decode cX7_peg 24 = .ok (.iconst 0, 1) := dk_3 (dk_at dksX7_peg_1 0 rfl rfl)
theorem dX7_peg_25 : decode cX7_peg 25 = .ok (.istore 4, 2) := dk_54 4 (dk_at dksX7_peg_1 1 rfl rfl)
theorem dX7_peg_27 : decode cX7_peg 27 = .ok (.iload 4, 2) := dk_21 4 (dk_at dksX7_peg_1 3 rfl rfl)
theorem dX7_peg_29 : decode cX7_peg 29 = .ok (.aload_n 0, 1) := dk_42 (dk_at dksX7_peg_1 5 rfl rfl)
theorem dX7_peg_30 : decode cX7_peg 30 = .ok (.getfield 7, 3) := dk_180 0 7 (dk_at dksX7_peg_1 6 rfl rfl)
theorem dX7_peg_33 : decode cX7_peg 33 = .ok (.bipush 40, 2) := dk_16 40 (dk_at dksX7_peg_1 9 rfl rfl)
theorem dX7_peg_35 : decode cX7_peg 35 = .ok (.iaload, 1) := dk_46 (dk_at dksX7_peg_1 11 rfl rfl)
theorem dX7_peg_36 : decode cX7_peg 36 = .ok (.if_icmp .ge 54, 3) := dk_162 0 54 (dk_at dksX7_peg_1 12 rfl rfl)
theorem dX7_peg_39 : decode cX7_peg 39 = .ok (.aload_n 0, 1) := dk_42 (dk_at dksX7_peg_1 15 rfl rfl)
theorem dX7_peg_40 : decode cX7_peg 40 = .ok (.iconst 0, 1) := dk_3 (dk_at dksX7_peg_1 16 rfl rfl)
theorem dX7_peg_41 : decode cX7_peg 41 = .ok (.aload_n 0, 1) := dk_42 (dk_at dksX7_peg_1 17 rfl rfl)
theorem dX7_peg_42 : decode cX7_peg 42 = .ok (.getfield 7, 3) := dk_180 0 7 (dk_at dksX7_peg_1 18 rfl rfl)
theorem dX7_peg_45 : decode cX7_peg 45 = .ok (.bipush 26, 2) := dk_16 26 (dk_at dksX7_peg_1 21 rfl rfl)
theorem dX7_peg_47 : decode cX7_peg 47 = .ok (.iload 4, 2) := dk_21 4 (dk_at dksX7_peg_2 0 rfl rfl)
theorem dX7_peg_49 : decode cX7_peg 49 = .ok (.iadd, 1) := dk_96 (dk_at dksX7_peg_2 2 rfl rfl)
theorem dX7_peg_50 : decode cX7_peg 50 = .ok (.iaload, 1) := dk_46 (dk_at dksX7_peg_2 3 rfl rfl)
theorem dX7_peg_51 : decode cX7_peg 51 = .ok (.aload_n 0, 1) := dk_42 (dk_at dksX7_peg_2 4 rfl rfl)
theorem dX7_peg_52 : decode cX7_peg 52 = .ok (.getfield 7, 3) := dk_180 0 7 (dk_at dksX7_peg_2 5 rfl rfl)
theorem dX7_peg_55 : decode cX7_peg 55 = .ok (.bipush 32, 2) := dk_16 32 (dk_at dksX7_peg_2 8 rfl rfl)
theorem dX7_peg_57 : decode cX7_peg 57 = .ok (.iload 4, 2) := dk_21 4 (dk_at dksX7_peg_2 10 rfl rfl)
theorem dX7_peg_59 : decode cX7_peg 59 = .ok (.iadd, 1) := dk_96 (dk_at dksX7_peg_2 12 rfl rfl)
theorem dX7_peg_60 : decode cX7_peg 60 = .ok (.iaload, 1) := dk_46 (dk_at dksX7_peg_2 13 rfl rfl)
theorem dX7_peg_61 : decode cX7_peg 61 = .ok (.iconst 0, 1) := dk_3 (dk_at dksX7_peg_2 14 rfl rfl)
theorem dX7_peg_62 : decode cX7_peg 62 = .ok (.invokevirtual 164, 3) := dk_182 0 164 (dk_at dksX7_peg_2 15 rfl rfl)
theorem dX7_peg_65 : decode cX7_peg 65 = .ok (.iload_n 3, 1) := dk_29 (dk_at dksX7_peg_2 18 rfl rfl)
theorem dX7_peg_66 : decode cX7_peg 66 = .ok (.aload_n 0, 1) := dk_42 (dk_at dksX7_peg_2 19 rfl rfl)
theorem dX7_peg_67 : decode cX7_peg 67 = .ok (.getfield 145, 3) := dk_180 0 145 (dk_at dksX7_peg_2 20 rfl rfl)
theorem dX7_peg_70 : decode cX7_peg 70 = .ok (.iload_n 1, 1) := dk_27 (dk_at dksX7_peg_2 23 rfl rfl)
theorem dX7_peg_71 : decode cX7_peg 71 = .ok (.if_icmp .ne 10, 3) := dk_160 0 10 (dk_at dksX7_peg_3 0 rfl rfl)
theorem dX7_peg_74 : decode cX7_peg 74 = .ok (.iconst 1, 1) := dk_4 (dk_at dksX7_peg_3 3 rfl rfl)
theorem dX7_peg_75 : decode cX7_peg 75 = .ok (.iload 4, 2) := dk_21 4 (dk_at dksX7_peg_3 4 rfl rfl)
theorem dX7_peg_77 : decode cX7_peg 77 = .ok (.ishl, 1) := dk_120 (dk_at dksX7_peg_3 6 rfl rfl)
theorem dX7_peg_78 : decode cX7_peg 78 = .ok (.goto 4, 3) := dk_167 0 4 (dk_at dksX7_peg_3 7 rfl rfl)
theorem dX7_peg_81 : decode cX7_peg 81 = .ok (.iconst 0, 1) := dk_3 (dk_at dksX7_peg_3 10 rfl rfl)
theorem dX7_peg_82 : decode cX7_peg 82 = .ok (.ior, 1) := dk_128 (dk_at dksX7_peg_3 11 rfl rfl)
theorem dX7_peg_83 : decode cX7_peg 83 = .ok (.istore_n 3, 1) := dk_62 (dk_at dksX7_peg_3 12 rfl rfl)
theorem dX7_peg_84 : decode cX7_peg 84 = .ok (.iinc 4 1, 3) := dk_132 4 1 (dk_at dksX7_peg_3 13 rfl rfl)
theorem dX7_peg_87 : decode cX7_peg 87 = .ok (.goto (-60), 3) := dk_167 255 196 (dk_at dksX7_peg_3 16 rfl rfl)
theorem dX7_peg_90 : decode cX7_peg 90 = .ok (.iload_n 2, 1) := dk_28 (dk_at dksX7_peg_3 19 rfl rfl)
theorem dX7_peg_91 : decode cX7_peg 91 = .ok (.iconst 2, 1) := dk_5 (dk_at dksX7_peg_3 20 rfl rfl)
theorem dX7_peg_92 : decode cX7_peg 92 = .ok (.if_icmp .ge 17, 3) := dk_162 0 17 (dk_at dksX7_peg_3 21 rfl rfl)
theorem dX7_peg_95 : decode cX7_peg 95 = .ok (.aload_n 0, 1) := dk_42 (dk_at dksX7_peg_4 0 rfl rfl)
theorem dX7_peg_96 : decode cX7_peg 96 = .ok (.getfield 7, 3) := dk_180 0 7 (dk_at dksX7_peg_4 1 rfl rfl)
theorem dX7_peg_99 : decode cX7_peg 99 = .ok (.bipush 7, 2) := dk_16 7 (dk_at dksX7_peg_4 4 rfl rfl)
theorem dX7_peg_101 : decode cX7_peg 101 = .ok (.iload_n 2, 1) := dk_28 (dk_at dksX7_peg_4 6 rfl rfl)
theorem dX7_peg_102 : decode cX7_peg 102 = .ok (.imul, 1) := dk_104 (dk_at dksX7_peg_4 7 rfl rfl)
theorem dX7_peg_103 : decode cX7_peg 103 = .ok (.iload_n 1, 1) := dk_27 (dk_at dksX7_peg_4 8 rfl rfl)
theorem dX7_peg_104 : decode cX7_peg 104 = .ok (.iadd, 1) := dk_96 (dk_at dksX7_peg_4 9 rfl rfl)
theorem dX7_peg_105 : decode cX7_peg 105 = .ok (.iaload, 1) := dk_46 (dk_at dksX7_peg_4 10 rfl rfl)
theorem dX7_peg_106 : decode cX7_peg 106 = .ok (.goto 4, 3) := dk_167 0 4 (dk_at dksX7_peg_4 11 rfl rfl)
theorem dX7_peg_109 : decode cX7_peg 109 = .ok (.iload_n 3, 1) := dk_29 (dk_at dksX7_peg_4 14 rfl rfl)
theorem dX7_peg_110 : decode cX7_peg 110 = .ok (.ireturn, 1) := dk_172 (dk_at dksX7_peg_4 15 rfl rfl)
abbrev cX7_isPeg : ByteArray := prog_11_method_18_code
def yX7_isPeg : MethodName := ⟨RX7, "isPeg", "(I)Z"⟩
def dkwX7_isPeg_0 : List UInt8 := [27, 133, 9, 42, 180, 0, 7, 16, 38, 46, 4, 100, 133, 184, 0, 49, 172]
abbrev dktX7_isPeg_0 : List UInt8 := dkwX7_isPeg_0 ++ []
theorem dksX7_isPeg_0 : cX7_isPeg.data.toList.drop 0 = dktX7_isPeg_0 := by decide +kernel
theorem dX7_isPeg_0 : decode cX7_isPeg 0 = .ok (.iload_n 1, 1) := dk_27 (dk_at dksX7_isPeg_0 0 rfl rfl)
theorem dX7_isPeg_1 : decode cX7_isPeg 1 = .ok (.i2l, 1) := dk_133 (dk_at dksX7_isPeg_0 1 rfl rfl)
theorem dX7_isPeg_2 : decode cX7_isPeg 2 = .ok (.lconst 0, 1) := dk_9 (dk_at dksX7_isPeg_0 2 rfl rfl)
theorem dX7_isPeg_3 : decode cX7_isPeg 3 = .ok (.aload_n 0, 1) := dk_42 (dk_at dksX7_isPeg_0 3 rfl rfl)
theorem dX7_isPeg_4 : decode cX7_isPeg 4 = .ok (.getfield 7, 3) := dk_180 0 7 (dk_at dksX7_isPeg_0 4 rfl rfl)
theorem dX7_isPeg_7 : decode cX7_isPeg 7 = .ok (.bipush 38, 2) := dk_16 38 (dk_at dksX7_isPeg_0 7 rfl rfl)
theorem dX7_isPeg_9 : decode cX7_isPeg 9 = .ok (.iaload, 1) := dk_46 (dk_at dksX7_isPeg_0 9 rfl rfl)
theorem dX7_isPeg_10 : decode cX7_isPeg 10 = .ok (.iconst 1, 1) := dk_4 (dk_at dksX7_isPeg_0 10 rfl rfl)
theorem dX7_isPeg_11 : decode cX7_isPeg 11 = .ok (.isub, 1) := dk_100 (dk_at dksX7_isPeg_0 11 rfl rfl)
theorem dX7_isPeg_12 : decode cX7_isPeg 12 = .ok (.i2l, 1) := dk_133 (dk_at dksX7_isPeg_0 12 rfl rfl)
theorem dX7_isPeg_13 : decode cX7_isPeg 13 = .ok (.invokestatic 49, 3) := dk_184 0 49 (dk_at dksX7_isPeg_0 13 rfl rfl)
theorem dX7_isPeg_16 : decode cX7_isPeg 16 = .ok (.ireturn, 1) := dk_172 (dk_at dksX7_isPeg_0 16 rfl rfl)
abbrev cX7_slug : ByteArray := prog_11_method_35_code
def yX7_slug : MethodName := ⟨RX7, "slug", "(I)I"⟩
def dkwX7_slug_1 : List UInt8 := [16, 14, 27, 96, 46, 167, 0, 4, 2, 172]
abbrev dktX7_slug_1 : List UInt8 := dkwX7_slug_1 ++ []
def dkwX7_slug_0 : List UInt8 := [27, 133, 9, 42, 180, 0, 7, 16, 39, 46, 4, 100, 133, 184, 0, 49, 153, 0, 15, 42, 180, 0, 7]
abbrev dktX7_slug_0 : List UInt8 := dkwX7_slug_0 ++ dktX7_slug_1
theorem dksX7_slug_0 : cX7_slug.data.toList.drop 0 = dktX7_slug_0 := by decide +kernel
theorem dksX7_slug_1 : cX7_slug.data.toList.drop 23 = dktX7_slug_1 := dk_seg dksX7_slug_0 23 rfl rfl
theorem dX7_slug_0 : decode cX7_slug 0 = .ok (.iload_n 1, 1) := dk_27 (dk_at dksX7_slug_0 0 rfl rfl)
theorem dX7_slug_1 : decode cX7_slug 1 = .ok (.i2l, 1) := dk_133 (dk_at dksX7_slug_0 1 rfl rfl)
theorem dX7_slug_2 : decode cX7_slug 2 = .ok (.lconst 0, 1) := dk_9 (dk_at dksX7_slug_0 2 rfl rfl)
theorem dX7_slug_3 : decode cX7_slug 3 = .ok (.aload_n 0, 1) := dk_42 (dk_at dksX7_slug_0 3 rfl rfl)
theorem dX7_slug_4 : decode cX7_slug 4 = .ok (.getfield 7, 3) := dk_180 0 7 (dk_at dksX7_slug_0 4 rfl rfl)
theorem dX7_slug_7 : decode cX7_slug 7 = .ok (.bipush 39, 2) := dk_16 39 (dk_at dksX7_slug_0 7 rfl rfl)
theorem dX7_slug_9 : decode cX7_slug 9 = .ok (.iaload, 1) := dk_46 (dk_at dksX7_slug_0 9 rfl rfl)
theorem dX7_slug_10 : decode cX7_slug 10 = .ok (.iconst 1, 1) := dk_4 (dk_at dksX7_slug_0 10 rfl rfl)
theorem dX7_slug_11 : decode cX7_slug 11 = .ok (.isub, 1) := dk_100 (dk_at dksX7_slug_0 11 rfl rfl)
theorem dX7_slug_12 : decode cX7_slug 12 = .ok (.i2l, 1) := dk_133 (dk_at dksX7_slug_0 12 rfl rfl)
theorem dX7_slug_13 : decode cX7_slug 13 = .ok (.invokestatic 49, 3) := dk_184 0 49 (dk_at dksX7_slug_0 13 rfl rfl)
theorem dX7_slug_16 : decode cX7_slug 16 = .ok (.ifCond .eq 15, 3) := dk_153 0 15 (dk_at dksX7_slug_0 16 rfl rfl)
theorem dX7_slug_19 : decode cX7_slug 19 = .ok (.aload_n 0, 1) := dk_42 (dk_at dksX7_slug_0 19 rfl rfl)
theorem dX7_slug_20 : decode cX7_slug 20 = .ok (.getfield 7, 3) := dk_180 0 7 (dk_at dksX7_slug_0 20 rfl rfl)
theorem dX7_slug_23 : decode cX7_slug 23 = .ok (.bipush 14, 2) := dk_16 14 (dk_at dksX7_slug_1 0 rfl rfl)
theorem dX7_slug_25 : decode cX7_slug 25 = .ok (.iload_n 1, 1) := dk_27 (dk_at dksX7_slug_1 2 rfl rfl)
theorem dX7_slug_26 : decode cX7_slug 26 = .ok (.iadd, 1) := dk_96 (dk_at dksX7_slug_1 3 rfl rfl)
theorem dX7_slug_27 : decode cX7_slug 27 = .ok (.iaload, 1) := dk_46 (dk_at dksX7_slug_1 4 rfl rfl)
theorem dX7_slug_28 : decode cX7_slug 28 = .ok (.goto 4, 3) := dk_167 0 4 (dk_at dksX7_slug_1 5 rfl rfl)
theorem dX7_slug_31 : decode cX7_slug 31 = .ok (.iconst (-1), 1) := dk_2 (dk_at dksX7_slug_1 8 rfl rfl)
theorem dX7_slug_32 : decode cX7_slug 32 = .ok (.ireturn, 1) := dk_172 (dk_at dksX7_slug_1 9 rfl rfl)
abbrev cX7_hedgehog : ByteArray := prog_11_method_36_code
def yX7_hedgehog : MethodName := ⟨RX7, "hedgehog", "(II)I"⟩
def dkwX7_hedgehog_4 : List UInt8 := [42, 180, 0, 7, 16, 18, 27, 96, 46, 184, 0, 158, 167, 0, 4, 29, 172]
abbrev dktX7_hedgehog_4 : List UInt8 := dkwX7_hedgehog_4 ++ []
def dkwX7_hedgehog_3 : List UInt8 := [162, 0, 19, 42, 180, 0, 7, 16, 18, 7, 28, 104, 96, 27, 96, 46, 167, 0, 24, 28, 5, 160, 0, 18]
abbrev dktX7_hedgehog_3 : List UInt8 := dkwX7_hedgehog_3 ++ dktX7_hedgehog_4
def dkwX7_hedgehog_2 : List UInt8 := [16, 252, 159, 0, 10, 4, 21, 4, 120, 167, 0, 4, 3, 128, 62, 132, 4, 1, 167, 255, 217, 28, 5]
abbrev dktX7_hedgehog_2 : List UInt8 := dkwX7_hedgehog_2 ++ dktX7_hedgehog_3
def dkwX7_hedgehog_1 : List UInt8 := [3, 54, 4, 21, 4, 16, 8, 162, 0, 38, 42, 3, 27, 21, 4, 3, 182, 0, 164, 29, 42, 180, 0, 145]
abbrev dktX7_hedgehog_1 : List UInt8 := dkwX7_hedgehog_1 ++ dktX7_hedgehog_2
def dkwX7_hedgehog_0 : List UInt8 := [42, 27, 182, 0, 180, 153, 0, 15, 28, 133, 9, 20, 0, 137, 184, 0, 49, 154, 0, 5, 2, 172, 3, 62]
abbrev dktX7_hedgehog_0 : List UInt8 := dkwX7_hedgehog_0 ++ dktX7_hedgehog_1
theorem dksX7_hedgehog_0 : cX7_hedgehog.data.toList.drop 0 = dktX7_hedgehog_0 := by decide +kernel
theorem dksX7_hedgehog_1 : cX7_hedgehog.data.toList.drop 24 = dktX7_hedgehog_1 := dk_seg dksX7_hedgehog_0 24 rfl rfl
theorem dksX7_hedgehog_2 : cX7_hedgehog.data.toList.drop 48 = dktX7_hedgehog_2 := dk_seg dksX7_hedgehog_1 24 rfl rfl
theorem dksX7_hedgehog_3 : cX7_hedgehog.data.toList.drop 71 = dktX7_hedgehog_3 := dk_seg dksX7_hedgehog_2 23 rfl rfl
theorem dksX7_hedgehog_4 : cX7_hedgehog.data.toList.drop 95 = dktX7_hedgehog_4 := dk_seg dksX7_hedgehog_3 24 rfl rfl
theorem dX7_hedgehog_0 : decode cX7_hedgehog 0 = .ok (.aload_n 0, 1) := dk_42 (dk_at dksX7_hedgehog_0 0 rfl rfl)
theorem dX7_hedgehog_1 : decode cX7_hedgehog 1 = .ok (.iload_n 1, 1) := dk_27 (dk_at dksX7_hedgehog_0 1 rfl rfl)
theorem dX7_hedgehog_2 : decode cX7_hedgehog 2 = .ok (.invokevirtual 180, 3) := dk_182 0 180 (dk_at dksX7_hedgehog_0 2 rfl rfl)
theorem dX7_hedgehog_5 : decode cX7_hedgehog 5 = .ok (.ifCond .eq 15, 3) := dk_153 0 15 (dk_at dksX7_hedgehog_0 5 rfl rfl)
theorem dX7_hedgehog_8 : decode cX7_hedgehog 8 = .ok (.iload_n 2, 1) := dk_28 (dk_at dksX7_hedgehog_0 8 rfl rfl)
theorem dX7_hedgehog_9 : decode cX7_hedgehog 9 = .ok (.i2l, 1) := dk_133 (dk_at dksX7_hedgehog_0 9 rfl rfl)
theorem dX7_hedgehog_10 : decode cX7_hedgehog 10 = .ok (.lconst 0, 1) := dk_9 (dk_at dksX7_hedgehog_0 10 rfl rfl)
theorem dX7_hedgehog_11 : decode cX7_hedgehog 11 = .ok (.ldc2_w 137, 3) := dk_20 0 137 (dk_at dksX7_hedgehog_0 11 rfl rfl)
theorem dX7_hedgehog_14 : decode cX7_hedgehog 14 = .ok (.invokestatic 49, 3) := dk_184 0 49 (dk_at dksX7_hedgehog_0 14 rfl rfl)
theorem dX7_hedgehog_17 : decode cX7_hedgehog 17 = .ok (.ifCond .ne 5, 3) := dk_154 0 5 (dk_at dksX7_hedgehog_0 17 rfl rfl)
theorem dX7_hedgehog_20 : decode cX7_hedgehog 20 = .ok (.iconst (-1), 1) := dk_2 (dk_at dksX7_hedgehog_0 20 rfl rfl)
theorem dX7_hedgehog_21 : decode cX7_hedgehog 21 = .ok (.ireturn, 1) := dk_172 (dk_at dksX7_hedgehog_0 21 rfl rfl)
theorem dX7_hedgehog_22 : decode cX7_hedgehog 22 = .ok (.iconst 0, 1) := dk_3 (dk_at dksX7_hedgehog_0 22 rfl rfl)
theorem dX7_hedgehog_23 : decode cX7_hedgehog 23 = .ok (.istore_n 3, 1) := dk_62 (dk_at dksX7_hedgehog_0 23 rfl rfl)
theorem dX7_hedgehog_24 : decode cX7_hedgehog 24 = .ok (.iconst 0, 1) := dk_3 (dk_at dksX7_hedgehog_1 0 rfl rfl)
theorem dX7_hedgehog_25 : decode cX7_hedgehog 25 = .ok (.istore 4, 2) := dk_54 4 (dk_at dksX7_hedgehog_1 1 rfl rfl)
theorem dX7_hedgehog_27 : decode cX7_hedgehog 27 = .ok (.iload 4, 2) := dk_21 4 (dk_at dksX7_hedgehog_1 3 rfl rfl)
theorem dX7_hedgehog_29 : decode cX7_hedgehog 29 = .ok (.bipush 8, 2) := dk_16 8 (dk_at dksX7_hedgehog_1 5 rfl rfl)
theorem dX7_hedgehog_31 : decode cX7_hedgehog 31 = .ok (.if_icmp .ge 38, 3) := dk_162 0 38 (dk_at dksX7_hedgehog_1 7 rfl rfl)
theorem dX7_hedgehog_34 : decode cX7_hedgehog 34 = .ok (.aload_n 0, 1) := dk_42 (dk_at dksX7_hedgehog_1 10 rfl rfl)
theorem dX7_hedgehog_35 : decode cX7_hedgehog 35 = .ok (.iconst 0, 1) := dk_3 (dk_at dksX7_hedgehog_1 11 rfl rfl)
theorem dX7_hedgehog_36 : decode cX7_hedgehog 36 = .ok (.iload_n 1, 1) := dk_27 (dk_at dksX7_hedgehog_1 12 rfl rfl)
theorem dX7_hedgehog_37 : decode cX7_hedgehog 37 = .ok (.iload 4, 2) := dk_21 4 (dk_at dksX7_hedgehog_1 13 rfl rfl)
theorem dX7_hedgehog_39 : decode cX7_hedgehog 39 = .ok (.iconst 0, 1) := dk_3 (dk_at dksX7_hedgehog_1 15 rfl rfl)
theorem dX7_hedgehog_40 : decode cX7_hedgehog 40 = .ok (.invokevirtual 164, 3) := dk_182 0 164 (dk_at dksX7_hedgehog_1 16 rfl rfl)
theorem dX7_hedgehog_43 : decode cX7_hedgehog 43 = .ok (.iload_n 3, 1) := dk_29 (dk_at dksX7_hedgehog_1 19 rfl rfl)
theorem dX7_hedgehog_44 : decode cX7_hedgehog 44 = .ok (.aload_n 0, 1) := dk_42 (dk_at dksX7_hedgehog_1 20 rfl rfl)
theorem dX7_hedgehog_45 : decode cX7_hedgehog 45 = .ok (.getfield 145, 3) := dk_180 0 145 (dk_at dksX7_hedgehog_1 21 rfl rfl)
theorem dX7_hedgehog_48 : decode cX7_hedgehog 48 = .ok (.bipush (-4), 2) := dk_16 252 (dk_at dksX7_hedgehog_2 0 rfl rfl)
theorem dX7_hedgehog_50 : decode cX7_hedgehog 50 = .ok (.if_icmp .eq 10, 3) := dk_159 0 10 (dk_at dksX7_hedgehog_2 2 rfl rfl)
theorem dX7_hedgehog_53 : decode cX7_hedgehog 53 = .ok (.iconst 1, 1) := dk_4 (dk_at dksX7_hedgehog_2 5 rfl rfl)
theorem dX7_hedgehog_54 : decode cX7_hedgehog 54 = .ok (.iload 4, 2) := dk_21 4 (dk_at dksX7_hedgehog_2 6 rfl rfl)
theorem dX7_hedgehog_56 : decode cX7_hedgehog 56 = .ok (.ishl, 1) := dk_120 (dk_at dksX7_hedgehog_2 8 rfl rfl)
theorem dX7_hedgehog_57 : decode cX7_hedgehog 57 = .ok (.goto 4, 3) := dk_167 0 4 (dk_at dksX7_hedgehog_2 9 rfl rfl)
theorem dX7_hedgehog_60 : decode cX7_hedgehog 60 = .ok (.iconst 0, 1) := dk_3 (dk_at dksX7_hedgehog_2 12 rfl rfl)
theorem dX7_hedgehog_61 : decode cX7_hedgehog 61 = .ok (.ior, 1) := dk_128 (dk_at dksX7_hedgehog_2 13 rfl rfl)
theorem dX7_hedgehog_62 : decode cX7_hedgehog 62 = .ok (.istore_n 3, 1) := dk_62 (dk_at dksX7_hedgehog_2 14 rfl rfl)
theorem dX7_hedgehog_63 : decode cX7_hedgehog 63 = .ok (.iinc 4 1, 3) := dk_132 4 1 (dk_at dksX7_hedgehog_2 15 rfl rfl)
theorem dX7_hedgehog_66 : decode cX7_hedgehog 66 = .ok (.goto (-39), 3) := dk_167 255 217 (dk_at dksX7_hedgehog_2 18 rfl rfl)
theorem dX7_hedgehog_69 : decode cX7_hedgehog 69 = .ok (.iload_n 2, 1) := dk_28 (dk_at dksX7_hedgehog_2 21 rfl rfl)
theorem dX7_hedgehog_70 : decode cX7_hedgehog 70 = .ok (.iconst 2, 1) := dk_5 (dk_at dksX7_hedgehog_2 22 rfl rfl)
theorem dX7_hedgehog_71 : decode cX7_hedgehog 71 = .ok (.if_icmp .ge 19, 3) := dk_162 0 19 (dk_at dksX7_hedgehog_3 0 rfl rfl)
theorem dX7_hedgehog_74 : decode cX7_hedgehog 74 = .ok (.aload_n 0, 1) := dk_42 (dk_at dksX7_hedgehog_3 3 rfl rfl)
theorem dX7_hedgehog_75 : decode cX7_hedgehog 75 = .ok (.getfield 7, 3) := dk_180 0 7 (dk_at dksX7_hedgehog_3 4 rfl rfl)
theorem dX7_hedgehog_78 : decode cX7_hedgehog 78 = .ok (.bipush 18, 2) := dk_16 18 (dk_at dksX7_hedgehog_3 7 rfl rfl)
theorem dX7_hedgehog_80 : decode cX7_hedgehog 80 = .ok (.iconst 4, 1) := dk_7 (dk_at dksX7_hedgehog_3 9 rfl rfl)
theorem dX7_hedgehog_81 : decode cX7_hedgehog 81 = .ok (.iload_n 2, 1) := dk_28 (dk_at dksX7_hedgehog_3 10 rfl rfl)
theorem dX7_hedgehog_82 : decode cX7_hedgehog 82 = .ok (.imul, 1) := dk_104 (dk_at dksX7_hedgehog_3 11 rfl rfl)
theorem dX7_hedgehog_83 : decode cX7_hedgehog 83 = .ok (.iadd, 1) := dk_96 (dk_at dksX7_hedgehog_3 12 rfl rfl)
theorem dX7_hedgehog_84 : decode cX7_hedgehog 84 = .ok (.iload_n 1, 1) := dk_27 (dk_at dksX7_hedgehog_3 13 rfl rfl)
theorem dX7_hedgehog_85 : decode cX7_hedgehog 85 = .ok (.iadd, 1) := dk_96 (dk_at dksX7_hedgehog_3 14 rfl rfl)
theorem dX7_hedgehog_86 : decode cX7_hedgehog 86 = .ok (.iaload, 1) := dk_46 (dk_at dksX7_hedgehog_3 15 rfl rfl)
theorem dX7_hedgehog_87 : decode cX7_hedgehog 87 = .ok (.goto 24, 3) := dk_167 0 24 (dk_at dksX7_hedgehog_3 16 rfl rfl)
theorem dX7_hedgehog_90 : decode cX7_hedgehog 90 = .ok (.iload_n 2, 1) := dk_28 (dk_at dksX7_hedgehog_3 19 rfl rfl)
theorem dX7_hedgehog_91 : decode cX7_hedgehog 91 = .ok (.iconst 2, 1) := dk_5 (dk_at dksX7_hedgehog_3 20 rfl rfl)
theorem dX7_hedgehog_92 : decode cX7_hedgehog 92 = .ok (.if_icmp .ne 18, 3) := dk_160 0 18 (dk_at dksX7_hedgehog_3 21 rfl rfl)
theorem dX7_hedgehog_95 : decode cX7_hedgehog 95 = .ok (.aload_n 0, 1) := dk_42 (dk_at dksX7_hedgehog_4 0 rfl rfl)
theorem dX7_hedgehog_96 : decode cX7_hedgehog 96 = .ok (.getfield 7, 3) := dk_180 0 7 (dk_at dksX7_hedgehog_4 1 rfl rfl)
theorem dX7_hedgehog_99 : decode cX7_hedgehog 99 = .ok (.bipush 18, 2) := dk_16 18 (dk_at dksX7_hedgehog_4 4 rfl rfl)
theorem dX7_hedgehog_101 : decode cX7_hedgehog 101 = .ok (.iload_n 1, 1) := dk_27 (dk_at dksX7_hedgehog_4 6 rfl rfl)
theorem dX7_hedgehog_102 : decode cX7_hedgehog 102 = .ok (.iadd, 1) := dk_96 (dk_at dksX7_hedgehog_4 7 rfl rfl)
theorem dX7_hedgehog_103 : decode cX7_hedgehog 103 = .ok (.iaload, 1) := dk_46 (dk_at dksX7_hedgehog_4 8 rfl rfl)
theorem dX7_hedgehog_104 : decode cX7_hedgehog 104 = .ok (.invokestatic 158, 3) := dk_184 0 158 (dk_at dksX7_hedgehog_4 9 rfl rfl)
theorem dX7_hedgehog_107 : decode cX7_hedgehog 107 = .ok (.goto 4, 3) := dk_167 0 4 (dk_at dksX7_hedgehog_4 12 rfl rfl)
theorem dX7_hedgehog_110 : decode cX7_hedgehog 110 = .ok (.iload_n 3, 1) := dk_29 (dk_at dksX7_hedgehog_4 15 rfl rfl)
theorem dX7_hedgehog_111 : decode cX7_hedgehog 111 = .ok (.ireturn, 1) := dk_172 (dk_at dksX7_hedgehog_4 16 rfl rfl)
abbrev cX7_isHog : ByteArray := prog_11_method_19_code
def yX7_isHog : MethodName := ⟨RX7, "isHog", "(I)Z"⟩
def dkwX7_isHog_0 : List UInt8 := [27, 133, 9, 42, 180, 0, 129, 4, 100, 133, 184, 0, 49, 172]
abbrev dktX7_isHog_0 : List UInt8 := dkwX7_isHog_0 ++ []
theorem dksX7_isHog_0 : cX7_isHog.data.toList.drop 0 = dktX7_isHog_0 := by decide +kernel
theorem dX7_isHog_0 : decode cX7_isHog 0 = .ok (.iload_n 1, 1) := dk_27 (dk_at dksX7_isHog_0 0 rfl rfl)
theorem dX7_isHog_1 : decode cX7_isHog 1 = .ok (.i2l, 1) := dk_133 (dk_at dksX7_isHog_0 1 rfl rfl)
theorem dX7_isHog_2 : decode cX7_isHog 2 = .ok (.lconst 0, 1) := dk_9 (dk_at dksX7_isHog_0 2 rfl rfl)
theorem dX7_isHog_3 : decode cX7_isHog 3 = .ok (.aload_n 0, 1) := dk_42 (dk_at dksX7_isHog_0 3 rfl rfl)
theorem dX7_isHog_4 : decode cX7_isHog 4 = .ok (.getfield 129, 3) := dk_180 0 129 (dk_at dksX7_isHog_0 4 rfl rfl)
theorem dX7_isHog_7 : decode cX7_isHog 7 = .ok (.iconst 1, 1) := dk_4 (dk_at dksX7_isHog_0 7 rfl rfl)
theorem dX7_isHog_8 : decode cX7_isHog 8 = .ok (.isub, 1) := dk_100 (dk_at dksX7_isHog_0 8 rfl rfl)
theorem dX7_isHog_9 : decode cX7_isHog 9 = .ok (.i2l, 1) := dk_133 (dk_at dksX7_isHog_0 9 rfl rfl)
theorem dX7_isHog_10 : decode cX7_isHog 10 = .ok (.invokestatic 49, 3) := dk_184 0 49 (dk_at dksX7_isHog_0 10 rfl rfl)
theorem dX7_isHog_13 : decode cX7_isHog 13 = .ok (.ireturn, 1) := dk_172 (dk_at dksX7_isHog_0 13 rfl rfl)
abbrev cX7_suit : ByteArray := prog_11_method_37_code
def yX7_suit : MethodName := ⟨RX7, "suit", "(II)I"⟩
def dkwX7_suit_2 : List UInt8 := [180, 0, 7, 16, 26, 27, 96, 46, 42, 180, 0, 7, 16, 32, 27, 96, 46, 182, 0, 168, 172]
abbrev dktX7_suit_2 : List UInt8 := dkwX7_suit_2 ++ []
def dkwX7_suit_1 : List UInt8 := [162, 0, 20, 42, 180, 0, 7, 16, 26, 16, 6, 28, 104, 96, 27, 96, 46, 167, 0, 26, 42, 3, 42]
abbrev dktX7_suit_1 : List UInt8 := dkwX7_suit_1 ++ dktX7_suit_2
def dkwX7_suit_0 : List UInt8 := [42, 27, 182, 0, 183, 153, 0, 15, 28, 133, 9, 20, 0, 178, 184, 0, 49, 154, 0, 5, 2, 172, 28, 5]
abbrev dktX7_suit_0 : List UInt8 := dkwX7_suit_0 ++ dktX7_suit_1
theorem dksX7_suit_0 : cX7_suit.data.toList.drop 0 = dktX7_suit_0 := by decide +kernel
theorem dksX7_suit_1 : cX7_suit.data.toList.drop 24 = dktX7_suit_1 := dk_seg dksX7_suit_0 24 rfl rfl
theorem dksX7_suit_2 : cX7_suit.data.toList.drop 47 = dktX7_suit_2 := dk_seg dksX7_suit_1 23 rfl rfl
theorem dX7_suit_0 : decode cX7_suit 0 = .ok (.aload_n 0, 1) := dk_42 (dk_at dksX7_suit_0 0 rfl rfl)
theorem dX7_suit_1 : decode cX7_suit 1 = .ok (.iload_n 1, 1) := dk_27 (dk_at dksX7_suit_0 1 rfl rfl)
theorem dX7_suit_2 : decode cX7_suit 2 = .ok (.invokevirtual 183, 3) := dk_182 0 183 (dk_at dksX7_suit_0 2 rfl rfl)
theorem dX7_suit_5 : decode cX7_suit 5 = .ok (.ifCond .eq 15, 3) := dk_153 0 15 (dk_at dksX7_suit_0 5 rfl rfl)
theorem dX7_suit_8 : decode cX7_suit 8 = .ok (.iload_n 2, 1) := dk_28 (dk_at dksX7_suit_0 8 rfl rfl)
theorem dX7_suit_9 : decode cX7_suit 9 = .ok (.i2l, 1) := dk_133 (dk_at dksX7_suit_0 9 rfl rfl)
theorem dX7_suit_10 : decode cX7_suit 10 = .ok (.lconst 0, 1) := dk_9 (dk_at dksX7_suit_0 10 rfl rfl)
theorem dX7_suit_11 : decode cX7_suit 11 = .ok (.ldc2_w 178, 3) := dk_20 0 178 (dk_at dksX7_suit_0 11 rfl rfl)
theorem dX7_suit_14 : decode cX7_suit 14 = .ok (.invokestatic 49, 3) := dk_184 0 49 (dk_at dksX7_suit_0 14 rfl rfl)
theorem dX7_suit_17 : decode cX7_suit 17 = .ok (.ifCond .ne 5, 3) := dk_154 0 5 (dk_at dksX7_suit_0 17 rfl rfl)
theorem dX7_suit_20 : decode cX7_suit 20 = .ok (.iconst (-1), 1) := dk_2 (dk_at dksX7_suit_0 20 rfl rfl)
theorem dX7_suit_21 : decode cX7_suit 21 = .ok (.ireturn, 1) := dk_172 (dk_at dksX7_suit_0 21 rfl rfl)
theorem dX7_suit_22 : decode cX7_suit 22 = .ok (.iload_n 2, 1) := dk_28 (dk_at dksX7_suit_0 22 rfl rfl)
theorem dX7_suit_23 : decode cX7_suit 23 = .ok (.iconst 2, 1) := dk_5 (dk_at dksX7_suit_0 23 rfl rfl)
theorem dX7_suit_24 : decode cX7_suit 24 = .ok (.if_icmp .ge 20, 3) := dk_162 0 20 (dk_at dksX7_suit_1 0 rfl rfl)
theorem dX7_suit_27 : decode cX7_suit 27 = .ok (.aload_n 0, 1) := dk_42 (dk_at dksX7_suit_1 3 rfl rfl)
theorem dX7_suit_28 : decode cX7_suit 28 = .ok (.getfield 7, 3) := dk_180 0 7 (dk_at dksX7_suit_1 4 rfl rfl)
theorem dX7_suit_31 : decode cX7_suit 31 = .ok (.bipush 26, 2) := dk_16 26 (dk_at dksX7_suit_1 7 rfl rfl)
theorem dX7_suit_33 : decode cX7_suit 33 = .ok (.bipush 6, 2) := dk_16 6 (dk_at dksX7_suit_1 9 rfl rfl)
theorem dX7_suit_35 : decode cX7_suit 35 = .ok (.iload_n 2, 1) := dk_28 (dk_at dksX7_suit_1 11 rfl rfl)
theorem dX7_suit_36 : decode cX7_suit 36 = .ok (.imul, 1) := dk_104 (dk_at dksX7_suit_1 12 rfl rfl)
theorem dX7_suit_37 : decode cX7_suit 37 = .ok (.iadd, 1) := dk_96 (dk_at dksX7_suit_1 13 rfl rfl)
theorem dX7_suit_38 : decode cX7_suit 38 = .ok (.iload_n 1, 1) := dk_27 (dk_at dksX7_suit_1 14 rfl rfl)
theorem dX7_suit_39 : decode cX7_suit 39 = .ok (.iadd, 1) := dk_96 (dk_at dksX7_suit_1 15 rfl rfl)
theorem dX7_suit_40 : decode cX7_suit 40 = .ok (.iaload, 1) := dk_46 (dk_at dksX7_suit_1 16 rfl rfl)
theorem dX7_suit_41 : decode cX7_suit 41 = .ok (.goto 26, 3) := dk_167 0 26 (dk_at dksX7_suit_1 17 rfl rfl)
theorem dX7_suit_44 : decode cX7_suit 44 = .ok (.aload_n 0, 1) := dk_42 (dk_at dksX7_suit_1 20 rfl rfl)
theorem dX7_suit_45 : decode cX7_suit 45 = .ok (.iconst 0, 1) := dk_3 (dk_at dksX7_suit_1 21 rfl rfl)
theorem dX7_suit_46 : decode cX7_suit 46 = .ok (.aload_n 0, 1) := dk_42 (dk_at dksX7_suit_1 22 rfl rfl)
theorem dX7_suit_47 : decode cX7_suit 47 = .ok (.getfield 7, 3) := dk_180 0 7 (dk_at dksX7_suit_2 0 rfl rfl)
theorem dX7_suit_50 : decode cX7_suit 50 = .ok (.bipush 26, 2) := dk_16 26 (dk_at dksX7_suit_2 3 rfl rfl)
theorem dX7_suit_52 : decode cX7_suit 52 = .ok (.iload_n 1, 1) := dk_27 (dk_at dksX7_suit_2 5 rfl rfl)
theorem dX7_suit_53 : decode cX7_suit 53 = .ok (.iadd, 1) := dk_96 (dk_at dksX7_suit_2 6 rfl rfl)
theorem dX7_suit_54 : decode cX7_suit 54 = .ok (.iaload, 1) := dk_46 (dk_at dksX7_suit_2 7 rfl rfl)
theorem dX7_suit_55 : decode cX7_suit 55 = .ok (.aload_n 0, 1) := dk_42 (dk_at dksX7_suit_2 8 rfl rfl)
theorem dX7_suit_56 : decode cX7_suit 56 = .ok (.getfield 7, 3) := dk_180 0 7 (dk_at dksX7_suit_2 9 rfl rfl)
theorem dX7_suit_59 : decode cX7_suit 59 = .ok (.bipush 32, 2) := dk_16 32 (dk_at dksX7_suit_2 12 rfl rfl)
theorem dX7_suit_61 : decode cX7_suit 61 = .ok (.iload_n 1, 1) := dk_27 (dk_at dksX7_suit_2 14 rfl rfl)
theorem dX7_suit_62 : decode cX7_suit 62 = .ok (.iadd, 1) := dk_96 (dk_at dksX7_suit_2 15 rfl rfl)
theorem dX7_suit_63 : decode cX7_suit 63 = .ok (.iaload, 1) := dk_46 (dk_at dksX7_suit_2 16 rfl rfl)
theorem dX7_suit_64 : decode cX7_suit 64 = .ok (.invokevirtual 168, 3) := dk_182 0 168 (dk_at dksX7_suit_2 17 rfl rfl)
theorem dX7_suit_67 : decode cX7_suit 67 = .ok (.ireturn, 1) := dk_172 (dk_at dksX7_suit_2 20 rfl rfl)
abbrev cX7_isSuit : ByteArray := prog_11_method_20_code
def yX7_isSuit : MethodName := ⟨RX7, "isSuit", "(I)Z"⟩
def dkwX7_isSuit_0 : List UInt8 := [27, 133, 9, 42, 180, 0, 7, 16, 40, 46, 4, 100, 133, 184, 0, 49, 172]
abbrev dktX7_isSuit_0 : List UInt8 := dkwX7_isSuit_0 ++ []
theorem dksX7_isSuit_0 : cX7_isSuit.data.toList.drop 0 = dktX7_isSuit_0 := by decide +kernel
theorem dX7_isSuit_0 : decode cX7_isSuit 0 = .ok (.iload_n 1, 1) := dk_27 (dk_at dksX7_isSuit_0 0 rfl rfl)
theorem dX7_isSuit_1 : decode cX7_isSuit 1 = .ok (.i2l, 1) := dk_133 (dk_at dksX7_isSuit_0 1 rfl rfl)
theorem dX7_isSuit_2 : decode cX7_isSuit 2 = .ok (.lconst 0, 1) := dk_9 (dk_at dksX7_isSuit_0 2 rfl rfl)
theorem dX7_isSuit_3 : decode cX7_isSuit 3 = .ok (.aload_n 0, 1) := dk_42 (dk_at dksX7_isSuit_0 3 rfl rfl)
theorem dX7_isSuit_4 : decode cX7_isSuit 4 = .ok (.getfield 7, 3) := dk_180 0 7 (dk_at dksX7_isSuit_0 4 rfl rfl)
theorem dX7_isSuit_7 : decode cX7_isSuit 7 = .ok (.bipush 40, 2) := dk_16 40 (dk_at dksX7_isSuit_0 7 rfl rfl)
theorem dX7_isSuit_9 : decode cX7_isSuit 9 = .ok (.iaload, 1) := dk_46 (dk_at dksX7_isSuit_0 9 rfl rfl)
theorem dX7_isSuit_10 : decode cX7_isSuit 10 = .ok (.iconst 1, 1) := dk_4 (dk_at dksX7_isSuit_0 10 rfl rfl)
theorem dX7_isSuit_11 : decode cX7_isSuit 11 = .ok (.isub, 1) := dk_100 (dk_at dksX7_isSuit_0 11 rfl rfl)
theorem dX7_isSuit_12 : decode cX7_isSuit 12 = .ok (.i2l, 1) := dk_133 (dk_at dksX7_isSuit_0 12 rfl rfl)
theorem dX7_isSuit_13 : decode cX7_isSuit 13 = .ok (.invokestatic 49, 3) := dk_184 0 49 (dk_at dksX7_isSuit_0 13 rfl rfl)
theorem dX7_isSuit_16 : decode cX7_isSuit 16 = .ok (.ireturn, 1) := dk_172 (dk_at dksX7_isSuit_0 16 rfl rfl)
abbrev cX7_shift : ByteArray := prog_11_method_39_code
def yX7_shift : MethodName := ⟨RX7, "shift", "(II)I"⟩
def dkwX7_shift_2 : List UInt8 := [16, 254, 172]
abbrev dktX7_shift_2 : List UInt8 := dkwX7_shift_2 ++ []
def dkwX7_shift_1 : List UInt8 := [154, 0, 13, 42, 3, 28, 182, 0, 139, 27, 160, 0, 13, 42, 4, 27, 28, 182, 0, 193, 167, 0, 5]
abbrev dktX7_shift_1 : List UInt8 := dkwX7_shift_1 ++ dktX7_shift_2
def dkwX7_shift_0 : List UInt8 := [42, 27, 182, 0, 175, 153, 0, 10, 28, 184, 0, 186, 154, 0, 5, 2, 172, 42, 3, 28, 182, 0, 189]
abbrev dktX7_shift_0 : List UInt8 := dkwX7_shift_0 ++ dktX7_shift_1
theorem dksX7_shift_0 : cX7_shift.data.toList.drop 0 = dktX7_shift_0 := by decide +kernel
theorem dksX7_shift_1 : cX7_shift.data.toList.drop 23 = dktX7_shift_1 := dk_seg dksX7_shift_0 23 rfl rfl
theorem dksX7_shift_2 : cX7_shift.data.toList.drop 46 = dktX7_shift_2 := dk_seg dksX7_shift_1 23 rfl rfl
theorem dX7_shift_0 : decode cX7_shift 0 = .ok (.aload_n 0, 1) := dk_42 (dk_at dksX7_shift_0 0 rfl rfl)
theorem dX7_shift_1 : decode cX7_shift 1 = .ok (.iload_n 1, 1) := dk_27 (dk_at dksX7_shift_0 1 rfl rfl)
theorem dX7_shift_2 : decode cX7_shift 2 = .ok (.invokevirtual 175, 3) := dk_182 0 175 (dk_at dksX7_shift_0 2 rfl rfl)
theorem dX7_shift_5 : decode cX7_shift 5 = .ok (.ifCond .eq 10, 3) := dk_153 0 10 (dk_at dksX7_shift_0 5 rfl rfl)
theorem dX7_shift_8 : decode cX7_shift 8 = .ok (.iload_n 2, 1) := dk_28 (dk_at dksX7_shift_0 8 rfl rfl)
theorem dX7_shift_9 : decode cX7_shift 9 = .ok (.invokestatic 186, 3) := dk_184 0 186 (dk_at dksX7_shift_0 9 rfl rfl)
theorem dX7_shift_12 : decode cX7_shift 12 = .ok (.ifCond .ne 5, 3) := dk_154 0 5 (dk_at dksX7_shift_0 12 rfl rfl)
theorem dX7_shift_15 : decode cX7_shift 15 = .ok (.iconst (-1), 1) := dk_2 (dk_at dksX7_shift_0 15 rfl rfl)
theorem dX7_shift_16 : decode cX7_shift 16 = .ok (.ireturn, 1) := dk_172 (dk_at dksX7_shift_0 16 rfl rfl)
theorem dX7_shift_17 : decode cX7_shift 17 = .ok (.aload_n 0, 1) := dk_42 (dk_at dksX7_shift_0 17 rfl rfl)
theorem dX7_shift_18 : decode cX7_shift 18 = .ok (.iconst 0, 1) := dk_3 (dk_at dksX7_shift_0 18 rfl rfl)
theorem dX7_shift_19 : decode cX7_shift 19 = .ok (.iload_n 2, 1) := dk_28 (dk_at dksX7_shift_0 19 rfl rfl)
theorem dX7_shift_20 : decode cX7_shift 20 = .ok (.invokevirtual 189, 3) := dk_182 0 189 (dk_at dksX7_shift_0 20 rfl rfl)
theorem dX7_shift_23 : decode cX7_shift 23 = .ok (.ifCond .ne 13, 3) := dk_154 0 13 (dk_at dksX7_shift_1 0 rfl rfl)
theorem dX7_shift_26 : decode cX7_shift 26 = .ok (.aload_n 0, 1) := dk_42 (dk_at dksX7_shift_1 3 rfl rfl)
theorem dX7_shift_27 : decode cX7_shift 27 = .ok (.iconst 0, 1) := dk_3 (dk_at dksX7_shift_1 4 rfl rfl)
theorem dX7_shift_28 : decode cX7_shift 28 = .ok (.iload_n 2, 1) := dk_28 (dk_at dksX7_shift_1 5 rfl rfl)
theorem dX7_shift_29 : decode cX7_shift 29 = .ok (.invokevirtual 139, 3) := dk_182 0 139 (dk_at dksX7_shift_1 6 rfl rfl)
theorem dX7_shift_32 : decode cX7_shift 32 = .ok (.iload_n 1, 1) := dk_27 (dk_at dksX7_shift_1 9 rfl rfl)
theorem dX7_shift_33 : decode cX7_shift 33 = .ok (.if_icmp .ne 13, 3) := dk_160 0 13 (dk_at dksX7_shift_1 10 rfl rfl)
theorem dX7_shift_36 : decode cX7_shift 36 = .ok (.aload_n 0, 1) := dk_42 (dk_at dksX7_shift_1 13 rfl rfl)
theorem dX7_shift_37 : decode cX7_shift 37 = .ok (.iconst 1, 1) := dk_4 (dk_at dksX7_shift_1 14 rfl rfl)
theorem dX7_shift_38 : decode cX7_shift 38 = .ok (.iload_n 1, 1) := dk_27 (dk_at dksX7_shift_1 15 rfl rfl)
theorem dX7_shift_39 : decode cX7_shift 39 = .ok (.iload_n 2, 1) := dk_28 (dk_at dksX7_shift_1 16 rfl rfl)
theorem dX7_shift_40 : decode cX7_shift 40 = .ok (.invokevirtual 193, 3) := dk_182 0 193 (dk_at dksX7_shift_1 17 rfl rfl)
theorem dX7_shift_43 : decode cX7_shift 43 = .ok (.goto 5, 3) := dk_167 0 5 (dk_at dksX7_shift_1 20 rfl rfl)
theorem dX7_shift_46 : decode cX7_shift 46 = .ok (.bipush (-2), 2) := dk_16 254 (dk_at dksX7_shift_2 0 rfl rfl)
theorem dX7_shift_48 : decode cX7_shift 48 = .ok (.ireturn, 1) := dk_172 (dk_at dksX7_shift_2 2 rfl rfl)
abbrev cX7_isCell : ByteArray := prog_11_method_21_code
def yX7_isCell : MethodName := ⟨RX7, "isCell", "(I)Z"⟩
def dkwX7_isCell_1 : List UInt8 := [167, 0, 4, 3, 172]
abbrev dktX7_isCell_1 : List UInt8 := dkwX7_isCell_1 ++ []
def dkwX7_isCell_0 : List UInt8 := [26, 133, 9, 20, 0, 79, 184, 0, 49, 153, 0, 16, 26, 16, 10, 112, 16, 8, 162, 0, 7, 4]
abbrev dktX7_isCell_0 : List UInt8 := dkwX7_isCell_0 ++ dktX7_isCell_1
theorem dksX7_isCell_0 : cX7_isCell.data.toList.drop 0 = dktX7_isCell_0 := by decide +kernel
theorem dksX7_isCell_1 : cX7_isCell.data.toList.drop 22 = dktX7_isCell_1 := dk_seg dksX7_isCell_0 22 rfl rfl
theorem dX7_isCell_0 : decode cX7_isCell 0 = .ok (.iload_n 0, 1) := dk_26 (dk_at dksX7_isCell_0 0 rfl rfl)
theorem dX7_isCell_1 : decode cX7_isCell 1 = .ok (.i2l, 1) := dk_133 (dk_at dksX7_isCell_0 1 rfl rfl)
theorem dX7_isCell_2 : decode cX7_isCell 2 = .ok (.lconst 0, 1) := dk_9 (dk_at dksX7_isCell_0 2 rfl rfl)
theorem dX7_isCell_3 : decode cX7_isCell 3 = .ok (.ldc2_w 79, 3) := dk_20 0 79 (dk_at dksX7_isCell_0 3 rfl rfl)
theorem dX7_isCell_6 : decode cX7_isCell 6 = .ok (.invokestatic 49, 3) := dk_184 0 49 (dk_at dksX7_isCell_0 6 rfl rfl)
theorem dX7_isCell_9 : decode cX7_isCell 9 = .ok (.ifCond .eq 16, 3) := dk_153 0 16 (dk_at dksX7_isCell_0 9 rfl rfl)
theorem dX7_isCell_12 : decode cX7_isCell 12 = .ok (.iload_n 0, 1) := dk_26 (dk_at dksX7_isCell_0 12 rfl rfl)
theorem dX7_isCell_13 : decode cX7_isCell 13 = .ok (.bipush 10, 2) := dk_16 10 (dk_at dksX7_isCell_0 13 rfl rfl)
theorem dX7_isCell_15 : decode cX7_isCell 15 = .ok (.irem, 1) := dk_112 (dk_at dksX7_isCell_0 15 rfl rfl)
theorem dX7_isCell_16 : decode cX7_isCell 16 = .ok (.bipush 8, 2) := dk_16 8 (dk_at dksX7_isCell_0 16 rfl rfl)
theorem dX7_isCell_18 : decode cX7_isCell 18 = .ok (.if_icmp .ge 7, 3) := dk_162 0 7 (dk_at dksX7_isCell_0 18 rfl rfl)
theorem dX7_isCell_21 : decode cX7_isCell 21 = .ok (.iconst 1, 1) := dk_4 (dk_at dksX7_isCell_0 21 rfl rfl)
theorem dX7_isCell_22 : decode cX7_isCell 22 = .ok (.goto 4, 3) := dk_167 0 4 (dk_at dksX7_isCell_1 0 rfl rfl)
theorem dX7_isCell_25 : decode cX7_isCell 25 = .ok (.iconst 0, 1) := dk_3 (dk_at dksX7_isCell_1 3 rfl rfl)
theorem dX7_isCell_26 : decode cX7_isCell 26 = .ok (.ireturn, 1) := dk_172 (dk_at dksX7_isCell_1 4 rfl rfl)
abbrev cX7_isFreeOn : ByteArray := prog_11_method_26_code
def yX7_isFreeOn : MethodName := ⟨RX7, "isFreeOn", "(II)Z"⟩
def dkwX7_isFreeOn_1 : List UInt8 := [167, 0, 4, 3, 172]
abbrev dktX7_isFreeOn_1 : List UInt8 := dkwX7_isFreeOn_1 ++ []
def dkwX7_isFreeOn_0 : List UInt8 := [42, 27, 28, 182, 0, 139, 16, 252, 160, 0, 18, 42, 27, 28, 182, 0, 142, 16, 252, 160, 0, 7, 4]
abbrev dktX7_isFreeOn_0 : List UInt8 := dkwX7_isFreeOn_0 ++ dktX7_isFreeOn_1
theorem dksX7_isFreeOn_0 : cX7_isFreeOn.data.toList.drop 0 = dktX7_isFreeOn_0 := by decide +kernel
theorem dksX7_isFreeOn_1 : cX7_isFreeOn.data.toList.drop 23 = dktX7_isFreeOn_1 := dk_seg dksX7_isFreeOn_0 23 rfl rfl
theorem dX7_isFreeOn_0 : decode cX7_isFreeOn 0 = .ok (.aload_n 0, 1) := dk_42 (dk_at dksX7_isFreeOn_0 0 rfl rfl)
theorem dX7_isFreeOn_1 : decode cX7_isFreeOn 1 = .ok (.iload_n 1, 1) := dk_27 (dk_at dksX7_isFreeOn_0 1 rfl rfl)
theorem dX7_isFreeOn_2 : decode cX7_isFreeOn 2 = .ok (.iload_n 2, 1) := dk_28 (dk_at dksX7_isFreeOn_0 2 rfl rfl)
theorem dX7_isFreeOn_3 : decode cX7_isFreeOn 3 = .ok (.invokevirtual 139, 3) := dk_182 0 139 (dk_at dksX7_isFreeOn_0 3 rfl rfl)
theorem dX7_isFreeOn_6 : decode cX7_isFreeOn 6 = .ok (.bipush (-4), 2) := dk_16 252 (dk_at dksX7_isFreeOn_0 6 rfl rfl)
theorem dX7_isFreeOn_8 : decode cX7_isFreeOn 8 = .ok (.if_icmp .ne 18, 3) := dk_160 0 18 (dk_at dksX7_isFreeOn_0 8 rfl rfl)
theorem dX7_isFreeOn_11 : decode cX7_isFreeOn 11 = .ok (.aload_n 0, 1) := dk_42 (dk_at dksX7_isFreeOn_0 11 rfl rfl)
theorem dX7_isFreeOn_12 : decode cX7_isFreeOn 12 = .ok (.iload_n 1, 1) := dk_27 (dk_at dksX7_isFreeOn_0 12 rfl rfl)
theorem dX7_isFreeOn_13 : decode cX7_isFreeOn 13 = .ok (.iload_n 2, 1) := dk_28 (dk_at dksX7_isFreeOn_0 13 rfl rfl)
theorem dX7_isFreeOn_14 : decode cX7_isFreeOn 14 = .ok (.invokevirtual 142, 3) := dk_182 0 142 (dk_at dksX7_isFreeOn_0 14 rfl rfl)
theorem dX7_isFreeOn_17 : decode cX7_isFreeOn 17 = .ok (.bipush (-4), 2) := dk_16 252 (dk_at dksX7_isFreeOn_0 17 rfl rfl)
theorem dX7_isFreeOn_19 : decode cX7_isFreeOn 19 = .ok (.if_icmp .ne 7, 3) := dk_160 0 7 (dk_at dksX7_isFreeOn_0 19 rfl rfl)
theorem dX7_isFreeOn_22 : decode cX7_isFreeOn 22 = .ok (.iconst 1, 1) := dk_4 (dk_at dksX7_isFreeOn_0 22 rfl rfl)
theorem dX7_isFreeOn_23 : decode cX7_isFreeOn 23 = .ok (.goto 4, 3) := dk_167 0 4 (dk_at dksX7_isFreeOn_1 0 rfl rfl)
theorem dX7_isFreeOn_26 : decode cX7_isFreeOn 26 = .ok (.iconst 0, 1) := dk_3 (dk_at dksX7_isFreeOn_1 3 rfl rfl)
theorem dX7_isFreeOn_27 : decode cX7_isFreeOn 27 = .ok (.ireturn, 1) := dk_172 (dk_at dksX7_isFreeOn_1 4 rfl rfl)
abbrev cX7_puts : ByteArray := prog_11_method_38_code
def yX7_puts : MethodName := ⟨RX7, "puts", "(ZII)I"⟩
def dkwX7_puts_0 : List UInt8 := [27, 154, 0, 5, 2, 172, 42, 180, 0, 7, 28, 46, 54, 4, 42, 180, 0, 7, 28, 29, 79, 21, 4, 172]
abbrev dktX7_puts_0 : List UInt8 := dkwX7_puts_0 ++ []
theorem dksX7_puts_0 : cX7_puts.data.toList.drop 0 = dktX7_puts_0 := by decide +kernel
theorem dX7_puts_0 : decode cX7_puts 0 = .ok (.iload_n 1, 1) := dk_27 (dk_at dksX7_puts_0 0 rfl rfl)
theorem dX7_puts_1 : decode cX7_puts 1 = .ok (.ifCond .ne 5, 3) := dk_154 0 5 (dk_at dksX7_puts_0 1 rfl rfl)
theorem dX7_puts_4 : decode cX7_puts 4 = .ok (.iconst (-1), 1) := dk_2 (dk_at dksX7_puts_0 4 rfl rfl)
theorem dX7_puts_5 : decode cX7_puts 5 = .ok (.ireturn, 1) := dk_172 (dk_at dksX7_puts_0 5 rfl rfl)
theorem dX7_puts_6 : decode cX7_puts 6 = .ok (.aload_n 0, 1) := dk_42 (dk_at dksX7_puts_0 6 rfl rfl)
theorem dX7_puts_7 : decode cX7_puts 7 = .ok (.getfield 7, 3) := dk_180 0 7 (dk_at dksX7_puts_0 7 rfl rfl)
theorem dX7_puts_10 : decode cX7_puts 10 = .ok (.iload_n 2, 1) := dk_28 (dk_at dksX7_puts_0 10 rfl rfl)
theorem dX7_puts_11 : decode cX7_puts 11 = .ok (.iaload, 1) := dk_46 (dk_at dksX7_puts_0 11 rfl rfl)
theorem dX7_puts_12 : decode cX7_puts 12 = .ok (.istore 4, 2) := dk_54 4 (dk_at dksX7_puts_0 12 rfl rfl)
theorem dX7_puts_14 : decode cX7_puts 14 = .ok (.aload_n 0, 1) := dk_42 (dk_at dksX7_puts_0 14 rfl rfl)
theorem dX7_puts_15 : decode cX7_puts 15 = .ok (.getfield 7, 3) := dk_180 0 7 (dk_at dksX7_puts_0 15 rfl rfl)
theorem dX7_puts_18 : decode cX7_puts 18 = .ok (.iload_n 2, 1) := dk_28 (dk_at dksX7_puts_0 18 rfl rfl)
theorem dX7_puts_19 : decode cX7_puts 19 = .ok (.iload_n 3, 1) := dk_29 (dk_at dksX7_puts_0 19 rfl rfl)
theorem dX7_puts_20 : decode cX7_puts 20 = .ok (.iastore, 1) := dk_79 (dk_at dksX7_puts_0 20 rfl rfl)
theorem dX7_puts_21 : decode cX7_puts 21 = .ok (.iload 4, 2) := dk_21 4 (dk_at dksX7_puts_0 21 rfl rfl)
theorem dX7_puts_23 : decode cX7_puts 23 = .ok (.ireturn, 1) := dk_172 (dk_at dksX7_puts_0 23 rfl rfl)
abbrev cX7_rag : ByteArray := prog_11_method_40_code
def yX7_rag : MethodName := ⟨RX7, "rag", "(II)I"⟩
def dkwX7_rag_1 : List UInt8 := [96, 28, 182, 0, 193, 172]
abbrev dktX7_rag_1 : List UInt8 := dkwX7_rag_1 ++ []
def dkwX7_rag_0 : List UInt8 := [42, 42, 27, 182, 0, 175, 153, 0, 14, 28, 184, 0, 197, 153, 0, 7, 4, 167, 0, 4, 3, 16, 7, 27]
abbrev dktX7_rag_0 : List UInt8 := dkwX7_rag_0 ++ dktX7_rag_1
theorem dksX7_rag_0 : cX7_rag.data.toList.drop 0 = dktX7_rag_0 := by decide +kernel
theorem dksX7_rag_1 : cX7_rag.data.toList.drop 24 = dktX7_rag_1 := dk_seg dksX7_rag_0 24 rfl rfl
theorem dX7_rag_0 : decode cX7_rag 0 = .ok (.aload_n 0, 1) := dk_42 (dk_at dksX7_rag_0 0 rfl rfl)
theorem dX7_rag_1 : decode cX7_rag 1 = .ok (.aload_n 0, 1) := dk_42 (dk_at dksX7_rag_0 1 rfl rfl)
theorem dX7_rag_2 : decode cX7_rag 2 = .ok (.iload_n 1, 1) := dk_27 (dk_at dksX7_rag_0 2 rfl rfl)
theorem dX7_rag_3 : decode cX7_rag 3 = .ok (.invokevirtual 175, 3) := dk_182 0 175 (dk_at dksX7_rag_0 3 rfl rfl)
theorem dX7_rag_6 : decode cX7_rag 6 = .ok (.ifCond .eq 14, 3) := dk_153 0 14 (dk_at dksX7_rag_0 6 rfl rfl)
theorem dX7_rag_9 : decode cX7_rag 9 = .ok (.iload_n 2, 1) := dk_28 (dk_at dksX7_rag_0 9 rfl rfl)
theorem dX7_rag_10 : decode cX7_rag 10 = .ok (.invokestatic 197, 3) := dk_184 0 197 (dk_at dksX7_rag_0 10 rfl rfl)
theorem dX7_rag_13 : decode cX7_rag 13 = .ok (.ifCond .eq 7, 3) := dk_153 0 7 (dk_at dksX7_rag_0 13 rfl rfl)
theorem dX7_rag_16 : decode cX7_rag 16 = .ok (.iconst 1, 1) := dk_4 (dk_at dksX7_rag_0 16 rfl rfl)
theorem dX7_rag_17 : decode cX7_rag 17 = .ok (.goto 4, 3) := dk_167 0 4 (dk_at dksX7_rag_0 17 rfl rfl)
theorem dX7_rag_20 : decode cX7_rag 20 = .ok (.iconst 0, 1) := dk_3 (dk_at dksX7_rag_0 20 rfl rfl)
theorem dX7_rag_21 : decode cX7_rag 21 = .ok (.bipush 7, 2) := dk_16 7 (dk_at dksX7_rag_0 21 rfl rfl)
theorem dX7_rag_23 : decode cX7_rag 23 = .ok (.iload_n 1, 1) := dk_27 (dk_at dksX7_rag_0 23 rfl rfl)
theorem dX7_rag_24 : decode cX7_rag 24 = .ok (.iadd, 1) := dk_96 (dk_at dksX7_rag_1 0 rfl rfl)
theorem dX7_rag_25 : decode cX7_rag 25 = .ok (.iload_n 2, 1) := dk_28 (dk_at dksX7_rag_1 1 rfl rfl)
theorem dX7_rag_26 : decode cX7_rag 26 = .ok (.invokevirtual 193, 3) := dk_182 0 193 (dk_at dksX7_rag_1 2 rfl rfl)
theorem dX7_rag_29 : decode cX7_rag 29 = .ok (.ireturn, 1) := dk_172 (dk_at dksX7_rag_1 5 rfl rfl)
abbrev cX7_isRag : ByteArray := prog_11_method_23_code
def yX7_isRag : MethodName := ⟨RX7, "isRag", "(I)Z"⟩
def dkwX7_isRag_0 : List UInt8 := [26, 133, 9, 20, 0, 137, 184, 0, 49, 172]
abbrev dktX7_isRag_0 : List UInt8 := dkwX7_isRag_0 ++ []
theorem dksX7_isRag_0 : cX7_isRag.data.toList.drop 0 = dktX7_isRag_0 := by decide +kernel
theorem dX7_isRag_0 : decode cX7_isRag 0 = .ok (.iload_n 0, 1) := dk_26 (dk_at dksX7_isRag_0 0 rfl rfl)
theorem dX7_isRag_1 : decode cX7_isRag 1 = .ok (.i2l, 1) := dk_133 (dk_at dksX7_isRag_0 1 rfl rfl)
theorem dX7_isRag_2 : decode cX7_isRag 2 = .ok (.lconst 0, 1) := dk_9 (dk_at dksX7_isRag_0 2 rfl rfl)
theorem dX7_isRag_3 : decode cX7_isRag 3 = .ok (.ldc2_w 137, 3) := dk_20 0 137 (dk_at dksX7_isRag_0 3 rfl rfl)
theorem dX7_isRag_6 : decode cX7_isRag 6 = .ok (.invokestatic 49, 3) := dk_184 0 49 (dk_at dksX7_isRag_0 6 rfl rfl)
theorem dX7_isRag_9 : decode cX7_isRag 9 = .ok (.ireturn, 1) := dk_172 (dk_at dksX7_isRag_0 9 rfl rfl)
abbrev cX7_alter : ByteArray := prog_11_method_41_code
def yX7_alter : MethodName := ⟨RX7, "alter", "(III)I"⟩
def dkwX7_alter_3 : List UInt8 := [182, 0, 193, 172]
abbrev dktX7_alter_3 : List UInt8 := dkwX7_alter_3 ++ []
def dkwX7_alter_2 : List UInt8 := [153, 0, 12, 21, 4, 153, 0, 7, 4, 167, 0, 4, 3, 16, 18, 7, 28, 104, 96, 27, 96, 29]
abbrev dktX7_alter_2 : List UInt8 := dkwX7_alter_2 ++ dktX7_alter_3
def dkwX7_alter_1 : List UInt8 := [20, 0, 200, 184, 0, 49, 153, 0, 7, 4, 167, 0, 4, 3, 54, 4, 42, 42, 27, 182, 0, 180]
abbrev dktX7_alter_1 : List UInt8 := dkwX7_alter_1 ++ dktX7_alter_2
def dkwX7_alter_0 : List UInt8 := [28, 154, 0, 15, 29, 133, 9, 20, 0, 137, 184, 0, 49, 167, 0, 25, 28, 4, 160, 0, 19, 29, 133, 10]
abbrev dktX7_alter_0 : List UInt8 := dkwX7_alter_0 ++ dktX7_alter_1
theorem dksX7_alter_0 : cX7_alter.data.toList.drop 0 = dktX7_alter_0 := by decide +kernel
theorem dksX7_alter_1 : cX7_alter.data.toList.drop 24 = dktX7_alter_1 := dk_seg dksX7_alter_0 24 rfl rfl
theorem dksX7_alter_2 : cX7_alter.data.toList.drop 46 = dktX7_alter_2 := dk_seg dksX7_alter_1 22 rfl rfl
theorem dksX7_alter_3 : cX7_alter.data.toList.drop 68 = dktX7_alter_3 := dk_seg dksX7_alter_2 22 rfl rfl
theorem dX7_alter_0 : decode cX7_alter 0 = .ok (.iload_n 2, 1) := dk_28 (dk_at dksX7_alter_0 0 rfl rfl)
theorem dX7_alter_1 : decode cX7_alter 1 = .ok (.ifCond .ne 15, 3) := dk_154 0 15 (dk_at dksX7_alter_0 1 rfl rfl)
theorem dX7_alter_4 : decode cX7_alter 4 = .ok (.iload_n 3, 1) := dk_29 (dk_at dksX7_alter_0 4 rfl rfl)
theorem dX7_alter_5 : decode cX7_alter 5 = .ok (.i2l, 1) := dk_133 (dk_at dksX7_alter_0 5 rfl rfl)
theorem dX7_alter_6 : decode cX7_alter 6 = .ok (.lconst 0, 1) := dk_9 (dk_at dksX7_alter_0 6 rfl rfl)
theorem dX7_alter_7 : decode cX7_alter 7 = .ok (.ldc2_w 137, 3) := dk_20 0 137 (dk_at dksX7_alter_0 7 rfl rfl)
theorem dX7_alter_10 : decode cX7_alter 10 = .ok (.invokestatic 49, 3) := dk_184 0 49 (dk_at dksX7_alter_0 10 rfl rfl)
theorem dX7_alter_13 : decode cX7_alter 13 = .ok (.goto 25, 3) := dk_167 0 25 (dk_at dksX7_alter_0 13 rfl rfl)
theorem dX7_alter_16 : decode cX7_alter 16 = .ok (.iload_n 2, 1) := dk_28 (dk_at dksX7_alter_0 16 rfl rfl)
theorem dX7_alter_17 : decode cX7_alter 17 = .ok (.iconst 1, 1) := dk_4 (dk_at dksX7_alter_0 17 rfl rfl)
theorem dX7_alter_18 : decode cX7_alter 18 = .ok (.if_icmp .ne 19, 3) := dk_160 0 19 (dk_at dksX7_alter_0 18 rfl rfl)
theorem dX7_alter_21 : decode cX7_alter 21 = .ok (.iload_n 3, 1) := dk_29 (dk_at dksX7_alter_0 21 rfl rfl)
theorem dX7_alter_22 : decode cX7_alter 22 = .ok (.i2l, 1) := dk_133 (dk_at dksX7_alter_0 22 rfl rfl)
theorem dX7_alter_23 : decode cX7_alter 23 = .ok (.lconst 1, 1) := dk_10 (dk_at dksX7_alter_0 23 rfl rfl)
theorem dX7_alter_24 : decode cX7_alter 24 = .ok (.ldc2_w 200, 3) := dk_20 0 200 (dk_at dksX7_alter_1 0 rfl rfl)
theorem dX7_alter_27 : decode cX7_alter 27 = .ok (.invokestatic 49, 3) := dk_184 0 49 (dk_at dksX7_alter_1 3 rfl rfl)
theorem dX7_alter_30 : decode cX7_alter 30 = .ok (.ifCond .eq 7, 3) := dk_153 0 7 (dk_at dksX7_alter_1 6 rfl rfl)
theorem dX7_alter_33 : decode cX7_alter 33 = .ok (.iconst 1, 1) := dk_4 (dk_at dksX7_alter_1 9 rfl rfl)
theorem dX7_alter_34 : decode cX7_alter 34 = .ok (.goto 4, 3) := dk_167 0 4 (dk_at dksX7_alter_1 10 rfl rfl)
theorem dX7_alter_37 : decode cX7_alter 37 = .ok (.iconst 0, 1) := dk_3 (dk_at dksX7_alter_1 13 rfl rfl)
theorem dX7_alter_38 : decode cX7_alter 38 = .ok (.istore 4, 2) := dk_54 4 (dk_at dksX7_alter_1 14 rfl rfl)
theorem dX7_alter_40 : decode cX7_alter 40 = .ok (.aload_n 0, 1) := dk_42 (dk_at dksX7_alter_1 16 rfl rfl)
theorem dX7_alter_41 : decode cX7_alter 41 = .ok (.aload_n 0, 1) := dk_42 (dk_at dksX7_alter_1 17 rfl rfl)
theorem dX7_alter_42 : decode cX7_alter 42 = .ok (.iload_n 1, 1) := dk_27 (dk_at dksX7_alter_1 18 rfl rfl)
theorem dX7_alter_43 : decode cX7_alter 43 = .ok (.invokevirtual 180, 3) := dk_182 0 180 (dk_at dksX7_alter_1 19 rfl rfl)
theorem dX7_alter_46 : decode cX7_alter 46 = .ok (.ifCond .eq 12, 3) := dk_153 0 12 (dk_at dksX7_alter_2 0 rfl rfl)
theorem dX7_alter_49 : decode cX7_alter 49 = .ok (.iload 4, 2) := dk_21 4 (dk_at dksX7_alter_2 3 rfl rfl)
theorem dX7_alter_51 : decode cX7_alter 51 = .ok (.ifCond .eq 7, 3) := dk_153 0 7 (dk_at dksX7_alter_2 5 rfl rfl)
theorem dX7_alter_54 : decode cX7_alter 54 = .ok (.iconst 1, 1) := dk_4 (dk_at dksX7_alter_2 8 rfl rfl)
theorem dX7_alter_55 : decode cX7_alter 55 = .ok (.goto 4, 3) := dk_167 0 4 (dk_at dksX7_alter_2 9 rfl rfl)
theorem dX7_alter_58 : decode cX7_alter 58 = .ok (.iconst 0, 1) := dk_3 (dk_at dksX7_alter_2 12 rfl rfl)
theorem dX7_alter_59 : decode cX7_alter 59 = .ok (.bipush 18, 2) := dk_16 18 (dk_at dksX7_alter_2 13 rfl rfl)
theorem dX7_alter_61 : decode cX7_alter 61 = .ok (.iconst 4, 1) := dk_7 (dk_at dksX7_alter_2 15 rfl rfl)
theorem dX7_alter_62 : decode cX7_alter 62 = .ok (.iload_n 2, 1) := dk_28 (dk_at dksX7_alter_2 16 rfl rfl)
theorem dX7_alter_63 : decode cX7_alter 63 = .ok (.imul, 1) := dk_104 (dk_at dksX7_alter_2 17 rfl rfl)
theorem dX7_alter_64 : decode cX7_alter 64 = .ok (.iadd, 1) := dk_96 (dk_at dksX7_alter_2 18 rfl rfl)
theorem dX7_alter_65 : decode cX7_alter 65 = .ok (.iload_n 1, 1) := dk_27 (dk_at dksX7_alter_2 19 rfl rfl)
theorem dX7_alter_66 : decode cX7_alter 66 = .ok (.iadd, 1) := dk_96 (dk_at dksX7_alter_2 20 rfl rfl)
theorem dX7_alter_67 : decode cX7_alter 67 = .ok (.iload_n 3, 1) := dk_29 (dk_at dksX7_alter_2 21 rfl rfl)
theorem dX7_alter_68 : decode cX7_alter 68 = .ok (.invokevirtual 193, 3) := dk_182 0 193 (dk_at dksX7_alter_3 0 rfl rfl)
theorem dX7_alter_71 : decode cX7_alter 71 = .ok (.ireturn, 1) := dk_172 (dk_at dksX7_alter_3 3 rfl rfl)
abbrev cX7_drive : ByteArray := prog_11_method_44_code
def yX7_drive : MethodName := ⟨RX7, "drive", "(II)I"⟩
def dkwX7_drive_0 : List UInt8 := [42, 27, 28, 182, 0, 206, 172]
abbrev dktX7_drive_0 : List UInt8 := dkwX7_drive_0 ++ []
theorem dksX7_drive_0 : cX7_drive.data.toList.drop 0 = dktX7_drive_0 := by decide +kernel
theorem dX7_drive_0 : decode cX7_drive 0 = .ok (.aload_n 0, 1) := dk_42 (dk_at dksX7_drive_0 0 rfl rfl)
theorem dX7_drive_1 : decode cX7_drive 1 = .ok (.iload_n 1, 1) := dk_27 (dk_at dksX7_drive_0 1 rfl rfl)
theorem dX7_drive_2 : decode cX7_drive 2 = .ok (.iload_n 2, 1) := dk_28 (dk_at dksX7_drive_0 2 rfl rfl)
theorem dX7_drive_3 : decode cX7_drive 3 = .ok (.invokevirtual 206, 3) := dk_182 0 206 (dk_at dksX7_drive_0 3 rfl rfl)
theorem dX7_drive_6 : decode cX7_drive 6 = .ok (.ireturn, 1) := dk_172 (dk_at dksX7_drive_0 6 rfl rfl)
abbrev cX7_drives : ByteArray := prog_11_method_43_code
def yX7_drives : MethodName := ⟨RX7, "drives", "(II)I"⟩
def dkwX7_drives_2 : List UInt8 := [28, 182, 0, 202, 42, 180, 0, 7, 16, 38, 46, 172]
abbrev dktX7_drives_2 : List UInt8 := dkwX7_drives_2 ++ []
def dkwX7_drives_1 : List UInt8 := [154, 0, 6, 16, 254, 172, 42, 180, 0, 7, 16, 38, 46, 16, 7, 160, 0, 6, 16, 253, 172, 42, 3, 27]
abbrev dktX7_drives_1 : List UInt8 := dkwX7_drives_1 ++ dktX7_drives_2
def dkwX7_drives_0 : List UInt8 := [27, 184, 0, 186, 153, 0, 10, 28, 184, 0, 197, 154, 0, 5, 2, 172, 42, 3, 27, 182, 0, 189]
abbrev dktX7_drives_0 : List UInt8 := dkwX7_drives_0 ++ dktX7_drives_1
theorem dksX7_drives_0 : cX7_drives.data.toList.drop 0 = dktX7_drives_0 := by decide +kernel
theorem dksX7_drives_1 : cX7_drives.data.toList.drop 22 = dktX7_drives_1 := dk_seg dksX7_drives_0 22 rfl rfl
theorem dksX7_drives_2 : cX7_drives.data.toList.drop 46 = dktX7_drives_2 := dk_seg dksX7_drives_1 24 rfl rfl
theorem dX7_drives_0 : decode cX7_drives 0 = .ok (.iload_n 1, 1) := dk_27 (dk_at dksX7_drives_0 0 rfl rfl)
theorem dX7_drives_1 : decode cX7_drives 1 = .ok (.invokestatic 186, 3) := dk_184 0 186 (dk_at dksX7_drives_0 1 rfl rfl)
theorem dX7_drives_4 : decode cX7_drives 4 = .ok (.ifCond .eq 10, 3) := dk_153 0 10 (dk_at dksX7_drives_0 4 rfl rfl)
theorem dX7_drives_7 : decode cX7_drives 7 = .ok (.iload_n 2, 1) := dk_28 (dk_at dksX7_drives_0 7 rfl rfl)
theorem dX7_drives_8 : decode cX7_drives 8 = .ok (.invokestatic 197, 3) := dk_184 0 197 (dk_at dksX7_drives_0 8 rfl rfl)
theorem dX7_drives_11 : decode cX7_drives 11 = .ok (.ifCond .ne 5, 3) := dk_154 0 5 (dk_at dksX7_drives_0 11 rfl rfl)
theorem dX7_drives_14 : decode cX7_drives 14 = .ok (.iconst (-1), 1) := dk_2 (dk_at dksX7_drives_0 14 rfl rfl)
theorem dX7_drives_15 : decode cX7_drives 15 = .ok (.ireturn, 1) := dk_172 (dk_at dksX7_drives_0 15 rfl rfl)
theorem dX7_drives_16 : decode cX7_drives 16 = .ok (.aload_n 0, 1) := dk_42 (dk_at dksX7_drives_0 16 rfl rfl)
theorem dX7_drives_17 : decode cX7_drives 17 = .ok (.iconst 0, 1) := dk_3 (dk_at dksX7_drives_0 17 rfl rfl)
theorem dX7_drives_18 : decode cX7_drives 18 = .ok (.iload_n 1, 1) := dk_27 (dk_at dksX7_drives_0 18 rfl rfl)
theorem dX7_drives_19 : decode cX7_drives 19 = .ok (.invokevirtual 189, 3) := dk_182 0 189 (dk_at dksX7_drives_0 19 rfl rfl)
theorem dX7_drives_22 : decode cX7_drives 22 = .ok (.ifCond .ne 6, 3) := dk_154 0 6 (dk_at dksX7_drives_1 0 rfl rfl)
theorem dX7_drives_25 : decode cX7_drives 25 = .ok (.bipush (-2), 2) := dk_16 254 (dk_at dksX7_drives_1 3 rfl rfl)
theorem dX7_drives_27 : decode cX7_drives 27 = .ok (.ireturn, 1) := dk_172 (dk_at dksX7_drives_1 5 rfl rfl)
theorem dX7_drives_28 : decode cX7_drives 28 = .ok (.aload_n 0, 1) := dk_42 (dk_at dksX7_drives_1 6 rfl rfl)
theorem dX7_drives_29 : decode cX7_drives 29 = .ok (.getfield 7, 3) := dk_180 0 7 (dk_at dksX7_drives_1 7 rfl rfl)
theorem dX7_drives_32 : decode cX7_drives 32 = .ok (.bipush 38, 2) := dk_16 38 (dk_at dksX7_drives_1 10 rfl rfl)
theorem dX7_drives_34 : decode cX7_drives 34 = .ok (.iaload, 1) := dk_46 (dk_at dksX7_drives_1 12 rfl rfl)
theorem dX7_drives_35 : decode cX7_drives 35 = .ok (.bipush 7, 2) := dk_16 7 (dk_at dksX7_drives_1 13 rfl rfl)
theorem dX7_drives_37 : decode cX7_drives 37 = .ok (.if_icmp .ne 6, 3) := dk_160 0 6 (dk_at dksX7_drives_1 15 rfl rfl)
theorem dX7_drives_40 : decode cX7_drives 40 = .ok (.bipush (-3), 2) := dk_16 253 (dk_at dksX7_drives_1 18 rfl rfl)
theorem dX7_drives_42 : decode cX7_drives 42 = .ok (.ireturn, 1) := dk_172 (dk_at dksX7_drives_1 20 rfl rfl)
theorem dX7_drives_43 : decode cX7_drives 43 = .ok (.aload_n 0, 1) := dk_42 (dk_at dksX7_drives_1 21 rfl rfl)
theorem dX7_drives_44 : decode cX7_drives 44 = .ok (.iconst 0, 1) := dk_3 (dk_at dksX7_drives_1 22 rfl rfl)
theorem dX7_drives_45 : decode cX7_drives 45 = .ok (.iload_n 1, 1) := dk_27 (dk_at dksX7_drives_1 23 rfl rfl)
theorem dX7_drives_46 : decode cX7_drives 46 = .ok (.iload_n 2, 1) := dk_28 (dk_at dksX7_drives_2 0 rfl rfl)
theorem dX7_drives_47 : decode cX7_drives 47 = .ok (.invokevirtual 202, 3) := dk_182 0 202 (dk_at dksX7_drives_2 1 rfl rfl)
theorem dX7_drives_50 : decode cX7_drives 50 = .ok (.aload_n 0, 1) := dk_42 (dk_at dksX7_drives_2 4 rfl rfl)
theorem dX7_drives_51 : decode cX7_drives 51 = .ok (.getfield 7, 3) := dk_180 0 7 (dk_at dksX7_drives_2 5 rfl rfl)
theorem dX7_drives_54 : decode cX7_drives 54 = .ok (.bipush 38, 2) := dk_16 38 (dk_at dksX7_drives_2 8 rfl rfl)
theorem dX7_drives_56 : decode cX7_drives 56 = .ok (.iaload, 1) := dk_46 (dk_at dksX7_drives_2 10 rfl rfl)
theorem dX7_drives_57 : decode cX7_drives 57 = .ok (.ireturn, 1) := dk_172 (dk_at dksX7_drives_2 11 rfl rfl)
abbrev cX7_drivesOn : ByteArray := prog_11_method_42_code
def yX7_drivesOn : MethodName := ⟨RX7, "drivesOn", "(III)V"⟩
def dkwX7_drivesOn_2 : List UInt8 := [79, 177]
abbrev dktX7_drivesOn_2 : List UInt8 := dkwX7_drivesOn_2 ++ []
def dkwX7_drivesOn_1 : List UInt8 := [180, 0, 7, 27, 16, 7, 96, 21, 4, 96, 29, 79, 42, 180, 0, 7, 27, 16, 38, 96, 92, 46, 4, 96]
abbrev dktX7_drivesOn_1 : List UInt8 := dkwX7_drivesOn_1 ++ dktX7_drivesOn_2
def dkwX7_drivesOn_0 : List UInt8 := [42, 180, 0, 7, 27, 16, 38, 96, 46, 54, 4, 42, 180, 0, 7, 27, 21, 4, 96, 28, 79, 42]
abbrev dktX7_drivesOn_0 : List UInt8 := dkwX7_drivesOn_0 ++ dktX7_drivesOn_1
theorem dksX7_drivesOn_0 : cX7_drivesOn.data.toList.drop 0 = dktX7_drivesOn_0 := by decide +kernel
theorem dksX7_drivesOn_1 : cX7_drivesOn.data.toList.drop 22 = dktX7_drivesOn_1 := dk_seg dksX7_drivesOn_0 22 rfl rfl
theorem dksX7_drivesOn_2 : cX7_drivesOn.data.toList.drop 46 = dktX7_drivesOn_2 := dk_seg dksX7_drivesOn_1 24 rfl rfl
theorem dX7_drivesOn_0 : decode cX7_drivesOn 0 = .ok (.aload_n 0, 1) := dk_42 (dk_at dksX7_drivesOn_0 0 rfl rfl)
theorem dX7_drivesOn_1 : decode cX7_drivesOn 1 = .ok (.getfield 7, 3) := dk_180 0 7 (dk_at dksX7_drivesOn_0 1 rfl rfl)
theorem dX7_drivesOn_4 : decode cX7_drivesOn 4 = .ok (.iload_n 1, 1) := dk_27 (dk_at dksX7_drivesOn_0 4 rfl rfl)
theorem dX7_drivesOn_5 : decode cX7_drivesOn 5 = .ok (.bipush 38, 2) := dk_16 38 (dk_at dksX7_drivesOn_0 5 rfl rfl)
theorem dX7_drivesOn_7 : decode cX7_drivesOn 7 = .ok (.iadd, 1) := dk_96 (dk_at dksX7_drivesOn_0 7 rfl rfl)
theorem dX7_drivesOn_8 : decode cX7_drivesOn 8 = .ok (.iaload, 1) := dk_46 (dk_at dksX7_drivesOn_0 8 rfl rfl)
theorem dX7_drivesOn_9 : decode cX7_drivesOn 9 = .ok (.istore 4, 2) := dk_54 4 (dk_at dksX7_drivesOn_0 9 rfl rfl)
theorem dX7_drivesOn_11 : decode cX7_drivesOn 11 = .ok (.aload_n 0, 1) := dk_42 (dk_at dksX7_drivesOn_0 11 rfl rfl)
theorem dX7_drivesOn_12 : decode cX7_drivesOn 12 = .ok (.getfield 7, 3) := dk_180 0 7 (dk_at dksX7_drivesOn_0 12 rfl rfl)
theorem dX7_drivesOn_15 : decode cX7_drivesOn 15 = .ok (.iload_n 1, 1) := dk_27 (dk_at dksX7_drivesOn_0 15 rfl rfl)
theorem dX7_drivesOn_16 : decode cX7_drivesOn 16 = .ok (.iload 4, 2) := dk_21 4 (dk_at dksX7_drivesOn_0 16 rfl rfl)
theorem dX7_drivesOn_18 : decode cX7_drivesOn 18 = .ok (.iadd, 1) := dk_96 (dk_at dksX7_drivesOn_0 18 rfl rfl)
theorem dX7_drivesOn_19 : decode cX7_drivesOn 19 = .ok (.iload_n 2, 1) := dk_28 (dk_at dksX7_drivesOn_0 19 rfl rfl)
theorem dX7_drivesOn_20 : decode cX7_drivesOn 20 = .ok (.iastore, 1) := dk_79 (dk_at dksX7_drivesOn_0 20 rfl rfl)
theorem dX7_drivesOn_21 : decode cX7_drivesOn 21 = .ok (.aload_n 0, 1) := dk_42 (dk_at dksX7_drivesOn_0 21 rfl rfl)
theorem dX7_drivesOn_22 : decode cX7_drivesOn 22 = .ok (.getfield 7, 3) := dk_180 0 7 (dk_at dksX7_drivesOn_1 0 rfl rfl)
theorem dX7_drivesOn_25 : decode cX7_drivesOn 25 = .ok (.iload_n 1, 1) := dk_27 (dk_at dksX7_drivesOn_1 3 rfl rfl)
theorem dX7_drivesOn_26 : decode cX7_drivesOn 26 = .ok (.bipush 7, 2) := dk_16 7 (dk_at dksX7_drivesOn_1 4 rfl rfl)
theorem dX7_drivesOn_28 : decode cX7_drivesOn 28 = .ok (.iadd, 1) := dk_96 (dk_at dksX7_drivesOn_1 6 rfl rfl)
theorem dX7_drivesOn_29 : decode cX7_drivesOn 29 = .ok (.iload 4, 2) := dk_21 4 (dk_at dksX7_drivesOn_1 7 rfl rfl)
theorem dX7_drivesOn_31 : decode cX7_drivesOn 31 = .ok (.iadd, 1) := dk_96 (dk_at dksX7_drivesOn_1 9 rfl rfl)
theorem dX7_drivesOn_32 : decode cX7_drivesOn 32 = .ok (.iload_n 3, 1) := dk_29 (dk_at dksX7_drivesOn_1 10 rfl rfl)
theorem dX7_drivesOn_33 : decode cX7_drivesOn 33 = .ok (.iastore, 1) := dk_79 (dk_at dksX7_drivesOn_1 11 rfl rfl)
theorem dX7_drivesOn_34 : decode cX7_drivesOn 34 = .ok (.aload_n 0, 1) := dk_42 (dk_at dksX7_drivesOn_1 12 rfl rfl)
theorem dX7_drivesOn_35 : decode cX7_drivesOn 35 = .ok (.getfield 7, 3) := dk_180 0 7 (dk_at dksX7_drivesOn_1 13 rfl rfl)
theorem dX7_drivesOn_38 : decode cX7_drivesOn 38 = .ok (.iload_n 1, 1) := dk_27 (dk_at dksX7_drivesOn_1 16 rfl rfl)
theorem dX7_drivesOn_39 : decode cX7_drivesOn 39 = .ok (.bipush 38, 2) := dk_16 38 (dk_at dksX7_drivesOn_1 17 rfl rfl)
theorem dX7_drivesOn_41 : decode cX7_drivesOn 41 = .ok (.iadd, 1) := dk_96 (dk_at dksX7_drivesOn_1 19 rfl rfl)
theorem dX7_drivesOn_42 : decode cX7_drivesOn 42 = .ok (.dup2, 1) := dk_92 (dk_at dksX7_drivesOn_1 20 rfl rfl)
theorem dX7_drivesOn_43 : decode cX7_drivesOn 43 = .ok (.iaload, 1) := dk_46 (dk_at dksX7_drivesOn_1 21 rfl rfl)
theorem dX7_drivesOn_44 : decode cX7_drivesOn 44 = .ok (.iconst 1, 1) := dk_4 (dk_at dksX7_drivesOn_1 22 rfl rfl)
theorem dX7_drivesOn_45 : decode cX7_drivesOn 45 = .ok (.iadd, 1) := dk_96 (dk_at dksX7_drivesOn_1 23 rfl rfl)
theorem dX7_drivesOn_46 : decode cX7_drivesOn 46 = .ok (.iastore, 1) := dk_79 (dk_at dksX7_drivesOn_2 0 rfl rfl)
theorem dX7_drivesOn_47 : decode cX7_drivesOn 47 = .ok (.return_, 1) := dk_177 (dk_at dksX7_drivesOn_2 1 rfl rfl)
abbrev cX7_lay : ByteArray := prog_11_method_46_code
def yX7_lay : MethodName := ⟨RX7, "lay", "(I)I"⟩
def dkwX7_lay_2 : List UInt8 := [16, 39, 46, 172]
abbrev dktX7_lay_2 : List UInt8 := dkwX7_lay_2 ++ []
def dkwX7_lay_1 : List UInt8 := [180, 0, 7, 16, 39, 46, 7, 160, 0, 6, 16, 253, 172, 42, 3, 27, 182, 0, 209, 42, 180, 0, 7]
abbrev dktX7_lay_1 : List UInt8 := dkwX7_lay_1 ++ dktX7_lay_2
def dkwX7_lay_0 : List UInt8 := [27, 184, 0, 186, 154, 0, 5, 2, 172, 42, 3, 27, 182, 0, 189, 154, 0, 6, 16, 254, 172, 42]
abbrev dktX7_lay_0 : List UInt8 := dkwX7_lay_0 ++ dktX7_lay_1
theorem dksX7_lay_0 : cX7_lay.data.toList.drop 0 = dktX7_lay_0 := by decide +kernel
theorem dksX7_lay_1 : cX7_lay.data.toList.drop 22 = dktX7_lay_1 := dk_seg dksX7_lay_0 22 rfl rfl
theorem dksX7_lay_2 : cX7_lay.data.toList.drop 45 = dktX7_lay_2 := dk_seg dksX7_lay_1 23 rfl rfl
theorem dX7_lay_0 : decode cX7_lay 0 = .ok (.iload_n 1, 1) := dk_27 (dk_at dksX7_lay_0 0 rfl rfl)
theorem dX7_lay_1 : decode cX7_lay 1 = .ok (.invokestatic 186, 3) := dk_184 0 186 (dk_at dksX7_lay_0 1 rfl rfl)
theorem dX7_lay_4 : decode cX7_lay 4 = .ok (.ifCond .ne 5, 3) := dk_154 0 5 (dk_at dksX7_lay_0 4 rfl rfl)
theorem dX7_lay_7 : decode cX7_lay 7 = .ok (.iconst (-1), 1) := dk_2 (dk_at dksX7_lay_0 7 rfl rfl)
theorem dX7_lay_8 : decode cX7_lay 8 = .ok (.ireturn, 1) := dk_172 (dk_at dksX7_lay_0 8 rfl rfl)
theorem dX7_lay_9 : decode cX7_lay 9 = .ok (.aload_n 0, 1) := dk_42 (dk_at dksX7_lay_0 9 rfl rfl)
theorem dX7_lay_10 : decode cX7_lay 10 = .ok (.iconst 0, 1) := dk_3 (dk_at dksX7_lay_0 10 rfl rfl)
theorem dX7_lay_11 : decode cX7_lay 11 = .ok (.iload_n 1, 1) := dk_27 (dk_at dksX7_lay_0 11 rfl rfl)
theorem dX7_lay_12 : decode cX7_lay 12 = .ok (.invokevirtual 189, 3) := dk_182 0 189 (dk_at dksX7_lay_0 12 rfl rfl)
theorem dX7_lay_15 : decode cX7_lay 15 = .ok (.ifCond .ne 6, 3) := dk_154 0 6 (dk_at dksX7_lay_0 15 rfl rfl)
theorem dX7_lay_18 : decode cX7_lay 18 = .ok (.bipush (-2), 2) := dk_16 254 (dk_at dksX7_lay_0 18 rfl rfl)
theorem dX7_lay_20 : decode cX7_lay 20 = .ok (.ireturn, 1) := dk_172 (dk_at dksX7_lay_0 20 rfl rfl)
theorem dX7_lay_21 : decode cX7_lay 21 = .ok (.aload_n 0, 1) := dk_42 (dk_at dksX7_lay_0 21 rfl rfl)
theorem dX7_lay_22 : decode cX7_lay 22 = .ok (.getfield 7, 3) := dk_180 0 7 (dk_at dksX7_lay_1 0 rfl rfl)
theorem dX7_lay_25 : decode cX7_lay 25 = .ok (.bipush 39, 2) := dk_16 39 (dk_at dksX7_lay_1 3 rfl rfl)
theorem dX7_lay_27 : decode cX7_lay 27 = .ok (.iaload, 1) := dk_46 (dk_at dksX7_lay_1 5 rfl rfl)
theorem dX7_lay_28 : decode cX7_lay 28 = .ok (.iconst 4, 1) := dk_7 (dk_at dksX7_lay_1 6 rfl rfl)
theorem dX7_lay_29 : decode cX7_lay 29 = .ok (.if_icmp .ne 6, 3) := dk_160 0 6 (dk_at dksX7_lay_1 7 rfl rfl)
theorem dX7_lay_32 : decode cX7_lay 32 = .ok (.bipush (-3), 2) := dk_16 253 (dk_at dksX7_lay_1 10 rfl rfl)
theorem dX7_lay_34 : decode cX7_lay 34 = .ok (.ireturn, 1) := dk_172 (dk_at dksX7_lay_1 12 rfl rfl)
theorem dX7_lay_35 : decode cX7_lay 35 = .ok (.aload_n 0, 1) := dk_42 (dk_at dksX7_lay_1 13 rfl rfl)
theorem dX7_lay_36 : decode cX7_lay 36 = .ok (.iconst 0, 1) := dk_3 (dk_at dksX7_lay_1 14 rfl rfl)
theorem dX7_lay_37 : decode cX7_lay 37 = .ok (.iload_n 1, 1) := dk_27 (dk_at dksX7_lay_1 15 rfl rfl)
theorem dX7_lay_38 : decode cX7_lay 38 = .ok (.invokevirtual 209, 3) := dk_182 0 209 (dk_at dksX7_lay_1 16 rfl rfl)
theorem dX7_lay_41 : decode cX7_lay 41 = .ok (.aload_n 0, 1) := dk_42 (dk_at dksX7_lay_1 19 rfl rfl)
theorem dX7_lay_42 : decode cX7_lay 42 = .ok (.getfield 7, 3) := dk_180 0 7 (dk_at dksX7_lay_1 20 rfl rfl)
theorem dX7_lay_45 : decode cX7_lay 45 = .ok (.bipush 39, 2) := dk_16 39 (dk_at dksX7_lay_2 0 rfl rfl)
theorem dX7_lay_47 : decode cX7_lay 47 = .ok (.iaload, 1) := dk_46 (dk_at dksX7_lay_2 2 rfl rfl)
theorem dX7_lay_48 : decode cX7_lay 48 = .ok (.ireturn, 1) := dk_172 (dk_at dksX7_lay_2 3 rfl rfl)
abbrev cX7_laysOn : ByteArray := prog_11_method_45_code
def yX7_laysOn : MethodName := ⟨RX7, "laysOn", "(II)V"⟩
def dkwX7_laysOn_1 : List UInt8 := [27, 16, 39, 96, 92, 46, 4, 96, 79, 177]
abbrev dktX7_laysOn_1 : List UInt8 := dkwX7_laysOn_1 ++ []
def dkwX7_laysOn_0 : List UInt8 := [42, 180, 0, 7, 27, 16, 14, 96, 42, 180, 0, 7, 27, 16, 39, 96, 46, 96, 28, 79, 42, 180, 0, 7]
abbrev dktX7_laysOn_0 : List UInt8 := dkwX7_laysOn_0 ++ dktX7_laysOn_1
theorem dksX7_laysOn_0 : cX7_laysOn.data.toList.drop 0 = dktX7_laysOn_0 := by decide +kernel
theorem dksX7_laysOn_1 : cX7_laysOn.data.toList.drop 24 = dktX7_laysOn_1 := dk_seg dksX7_laysOn_0 24 rfl rfl
theorem dX7_laysOn_0 : decode cX7_laysOn 0 = .ok (.aload_n 0, 1) := dk_42 (dk_at dksX7_laysOn_0 0 rfl rfl)
theorem dX7_laysOn_1 : decode cX7_laysOn 1 = .ok (.getfield 7, 3) := dk_180 0 7 (dk_at dksX7_laysOn_0 1 rfl rfl)
theorem dX7_laysOn_4 : decode cX7_laysOn 4 = .ok (.iload_n 1, 1) := dk_27 (dk_at dksX7_laysOn_0 4 rfl rfl)
theorem dX7_laysOn_5 : decode cX7_laysOn 5 = .ok (.bipush 14, 2) := dk_16 14 (dk_at dksX7_laysOn_0 5 rfl rfl)
theorem dX7_laysOn_7 : decode cX7_laysOn 7 = .ok (.iadd, 1) := dk_96 (dk_at dksX7_laysOn_0 7 rfl rfl)
theorem dX7_laysOn_8 : decode cX7_laysOn 8 = .ok (.aload_n 0, 1) := dk_42 (dk_at dksX7_laysOn_0 8 rfl rfl)
theorem dX7_laysOn_9 : decode cX7_laysOn 9 = .ok (.getfield 7, 3) := dk_180 0 7 (dk_at dksX7_laysOn_0 9 rfl rfl)
theorem dX7_laysOn_12 : decode cX7_laysOn 12 = .ok (.iload_n 1, 1) := dk_27 (dk_at dksX7_laysOn_0 12 rfl rfl)
theorem dX7_laysOn_13 : decode cX7_laysOn 13 = .ok (.bipush 39, 2) := dk_16 39 (dk_at dksX7_laysOn_0 13 rfl rfl)
theorem dX7_laysOn_15 : decode cX7_laysOn 15 = .ok (.iadd, 1) := dk_96 (dk_at dksX7_laysOn_0 15 rfl rfl)
theorem dX7_laysOn_16 : decode cX7_laysOn 16 = .ok (.iaload, 1) := dk_46 (dk_at dksX7_laysOn_0 16 rfl rfl)
theorem dX7_laysOn_17 : decode cX7_laysOn 17 = .ok (.iadd, 1) := dk_96 (dk_at dksX7_laysOn_0 17 rfl rfl)
theorem dX7_laysOn_18 : decode cX7_laysOn 18 = .ok (.iload_n 2, 1) := dk_28 (dk_at dksX7_laysOn_0 18 rfl rfl)
theorem dX7_laysOn_19 : decode cX7_laysOn 19 = .ok (.iastore, 1) := dk_79 (dk_at dksX7_laysOn_0 19 rfl rfl)
theorem dX7_laysOn_20 : decode cX7_laysOn 20 = .ok (.aload_n 0, 1) := dk_42 (dk_at dksX7_laysOn_0 20 rfl rfl)
theorem dX7_laysOn_21 : decode cX7_laysOn 21 = .ok (.getfield 7, 3) := dk_180 0 7 (dk_at dksX7_laysOn_0 21 rfl rfl)
theorem dX7_laysOn_24 : decode cX7_laysOn 24 = .ok (.iload_n 1, 1) := dk_27 (dk_at dksX7_laysOn_1 0 rfl rfl)
theorem dX7_laysOn_25 : decode cX7_laysOn 25 = .ok (.bipush 39, 2) := dk_16 39 (dk_at dksX7_laysOn_1 1 rfl rfl)
theorem dX7_laysOn_27 : decode cX7_laysOn 27 = .ok (.iadd, 1) := dk_96 (dk_at dksX7_laysOn_1 3 rfl rfl)
theorem dX7_laysOn_28 : decode cX7_laysOn 28 = .ok (.dup2, 1) := dk_92 (dk_at dksX7_laysOn_1 4 rfl rfl)
theorem dX7_laysOn_29 : decode cX7_laysOn 29 = .ok (.iaload, 1) := dk_46 (dk_at dksX7_laysOn_1 5 rfl rfl)
theorem dX7_laysOn_30 : decode cX7_laysOn 30 = .ok (.iconst 1, 1) := dk_4 (dk_at dksX7_laysOn_1 6 rfl rfl)
theorem dX7_laysOn_31 : decode cX7_laysOn 31 = .ok (.iadd, 1) := dk_96 (dk_at dksX7_laysOn_1 7 rfl rfl)
theorem dX7_laysOn_32 : decode cX7_laysOn 32 = .ok (.iastore, 1) := dk_79 (dk_at dksX7_laysOn_1 8 rfl rfl)
theorem dX7_laysOn_33 : decode cX7_laysOn 33 = .ok (.return_, 1) := dk_177 (dk_at dksX7_laysOn_1 9 rfl rfl)
abbrev cX7_clear : ByteArray := prog_11_method_47_code
def yX7_clear : MethodName := ⟨RX7, "clear", "(I)I"⟩
def dkwX7_clear_0 : List UInt8 := [42, 27, 133, 9, 42, 180, 0, 7, 16, 39, 46, 133, 184, 0, 49, 16, 39, 27, 182, 0, 193, 172]
abbrev dktX7_clear_0 : List UInt8 := dkwX7_clear_0 ++ []
theorem dksX7_clear_0 : cX7_clear.data.toList.drop 0 = dktX7_clear_0 := by decide +kernel
theorem dX7_clear_0 : decode cX7_clear 0 = .ok (.aload_n 0, 1) := dk_42 (dk_at dksX7_clear_0 0 rfl rfl)
theorem dX7_clear_1 : decode cX7_clear 1 = .ok (.iload_n 1, 1) := dk_27 (dk_at dksX7_clear_0 1 rfl rfl)
theorem dX7_clear_2 : decode cX7_clear 2 = .ok (.i2l, 1) := dk_133 (dk_at dksX7_clear_0 2 rfl rfl)
theorem dX7_clear_3 : decode cX7_clear 3 = .ok (.lconst 0, 1) := dk_9 (dk_at dksX7_clear_0 3 rfl rfl)
theorem dX7_clear_4 : decode cX7_clear 4 = .ok (.aload_n 0, 1) := dk_42 (dk_at dksX7_clear_0 4 rfl rfl)
theorem dX7_clear_5 : decode cX7_clear 5 = .ok (.getfield 7, 3) := dk_180 0 7 (dk_at dksX7_clear_0 5 rfl rfl)
theorem dX7_clear_8 : decode cX7_clear 8 = .ok (.bipush 39, 2) := dk_16 39 (dk_at dksX7_clear_0 8 rfl rfl)
theorem dX7_clear_10 : decode cX7_clear 10 = .ok (.iaload, 1) := dk_46 (dk_at dksX7_clear_0 10 rfl rfl)
theorem dX7_clear_11 : decode cX7_clear 11 = .ok (.i2l, 1) := dk_133 (dk_at dksX7_clear_0 11 rfl rfl)
theorem dX7_clear_12 : decode cX7_clear 12 = .ok (.invokestatic 49, 3) := dk_184 0 49 (dk_at dksX7_clear_0 12 rfl rfl)
theorem dX7_clear_15 : decode cX7_clear 15 = .ok (.bipush 39, 2) := dk_16 39 (dk_at dksX7_clear_0 15 rfl rfl)
theorem dX7_clear_17 : decode cX7_clear 17 = .ok (.iload_n 1, 1) := dk_27 (dk_at dksX7_clear_0 17 rfl rfl)
theorem dX7_clear_18 : decode cX7_clear 18 = .ok (.invokevirtual 193, 3) := dk_182 0 193 (dk_at dksX7_clear_0 18 rfl rfl)
theorem dX7_clear_21 : decode cX7_clear 21 = .ok (.ireturn, 1) := dk_172 (dk_at dksX7_clear_0 21 rfl rfl)
abbrev cX7_sue : ByteArray := prog_11_method_48_code
def yX7_sue : MethodName := ⟨RX7, "sue", "(II)I"⟩
def dkwX7_sue_3 : List UInt8 := [172]
abbrev dktX7_sue_3 : List UInt8 := dkwX7_sue_3 ++ []
def dkwX7_sue_2 : List UInt8 := [16, 32, 29, 96, 28, 79, 42, 180, 0, 7, 16, 40, 92, 46, 4, 96, 79, 42, 180, 0, 7, 16, 40, 46]
abbrev dktX7_sue_2 : List UInt8 := dkwX7_sue_2 ++ dktX7_sue_3
def dkwX7_sue_1 : List UInt8 := [62, 29, 16, 6, 160, 0, 6, 16, 253, 172, 42, 180, 0, 7, 16, 26, 29, 96, 27, 79, 42, 180, 0, 7]
abbrev dktX7_sue_1 : List UInt8 := dkwX7_sue_1 ++ dktX7_sue_2
def dkwX7_sue_0 : List UInt8 := [42, 27, 182, 0, 180, 153, 0, 10, 28, 184, 0, 213, 154, 0, 5, 2, 172, 42, 180, 0, 7, 16, 40, 46]
abbrev dktX7_sue_0 : List UInt8 := dkwX7_sue_0 ++ dktX7_sue_1
theorem dksX7_sue_0 : cX7_sue.data.toList.drop 0 = dktX7_sue_0 := by decide +kernel
theorem dksX7_sue_1 : cX7_sue.data.toList.drop 24 = dktX7_sue_1 := dk_seg dksX7_sue_0 24 rfl rfl
theorem dksX7_sue_2 : cX7_sue.data.toList.drop 48 = dktX7_sue_2 := dk_seg dksX7_sue_1 24 rfl rfl
theorem dksX7_sue_3 : cX7_sue.data.toList.drop 72 = dktX7_sue_3 := dk_seg dksX7_sue_2 24 rfl rfl
theorem dX7_sue_0 : decode cX7_sue 0 = .ok (.aload_n 0, 1) := dk_42 (dk_at dksX7_sue_0 0 rfl rfl)
theorem dX7_sue_1 : decode cX7_sue 1 = .ok (.iload_n 1, 1) := dk_27 (dk_at dksX7_sue_0 1 rfl rfl)
theorem dX7_sue_2 : decode cX7_sue 2 = .ok (.invokevirtual 180, 3) := dk_182 0 180 (dk_at dksX7_sue_0 2 rfl rfl)
theorem dX7_sue_5 : decode cX7_sue 5 = .ok (.ifCond .eq 10, 3) := dk_153 0 10 (dk_at dksX7_sue_0 5 rfl rfl)
theorem dX7_sue_8 : decode cX7_sue 8 = .ok (.iload_n 2, 1) := dk_28 (dk_at dksX7_sue_0 8 rfl rfl)
theorem dX7_sue_9 : decode cX7_sue 9 = .ok (.invokestatic 213, 3) := dk_184 0 213 (dk_at dksX7_sue_0 9 rfl rfl)
theorem dX7_sue_12 : decode cX7_sue 12 = .ok (.ifCond .ne 5, 3) := dk_154 0 5 (dk_at dksX7_sue_0 12 rfl rfl)
theorem dX7_sue_15 : decode cX7_sue 15 = .ok (.iconst (-1), 1) := dk_2 (dk_at dksX7_sue_0 15 rfl rfl)
theorem dX7_sue_16 : decode cX7_sue 16 = .ok (.ireturn, 1) := dk_172 (dk_at dksX7_sue_0 16 rfl rfl)
theorem dX7_sue_17 : decode cX7_sue 17 = .ok (.aload_n 0, 1) := dk_42 (dk_at dksX7_sue_0 17 rfl rfl)
theorem dX7_sue_18 : decode cX7_sue 18 = .ok (.getfield 7, 3) := dk_180 0 7 (dk_at dksX7_sue_0 18 rfl rfl)
theorem dX7_sue_21 : decode cX7_sue 21 = .ok (.bipush 40, 2) := dk_16 40 (dk_at dksX7_sue_0 21 rfl rfl)
theorem dX7_sue_23 : decode cX7_sue 23 = .ok (.iaload, 1) := dk_46 (dk_at dksX7_sue_0 23 rfl rfl)
theorem dX7_sue_24 : decode cX7_sue 24 = .ok (.istore_n 3, 1) := dk_62 (dk_at dksX7_sue_1 0 rfl rfl)
theorem dX7_sue_25 : decode cX7_sue 25 = .ok (.iload_n 3, 1) := dk_29 (dk_at dksX7_sue_1 1 rfl rfl)
theorem dX7_sue_26 : decode cX7_sue 26 = .ok (.bipush 6, 2) := dk_16 6 (dk_at dksX7_sue_1 2 rfl rfl)
theorem dX7_sue_28 : decode cX7_sue 28 = .ok (.if_icmp .ne 6, 3) := dk_160 0 6 (dk_at dksX7_sue_1 4 rfl rfl)
theorem dX7_sue_31 : decode cX7_sue 31 = .ok (.bipush (-3), 2) := dk_16 253 (dk_at dksX7_sue_1 7 rfl rfl)
theorem dX7_sue_33 : decode cX7_sue 33 = .ok (.ireturn, 1) := dk_172 (dk_at dksX7_sue_1 9 rfl rfl)
theorem dX7_sue_34 : decode cX7_sue 34 = .ok (.aload_n 0, 1) := dk_42 (dk_at dksX7_sue_1 10 rfl rfl)
theorem dX7_sue_35 : decode cX7_sue 35 = .ok (.getfield 7, 3) := dk_180 0 7 (dk_at dksX7_sue_1 11 rfl rfl)
theorem dX7_sue_38 : decode cX7_sue 38 = .ok (.bipush 26, 2) := dk_16 26 (dk_at dksX7_sue_1 14 rfl rfl)
theorem dX7_sue_40 : decode cX7_sue 40 = .ok (.iload_n 3, 1) := dk_29 (dk_at dksX7_sue_1 16 rfl rfl)
theorem dX7_sue_41 : decode cX7_sue 41 = .ok (.iadd, 1) := dk_96 (dk_at dksX7_sue_1 17 rfl rfl)
theorem dX7_sue_42 : decode cX7_sue 42 = .ok (.iload_n 1, 1) := dk_27 (dk_at dksX7_sue_1 18 rfl rfl)
theorem dX7_sue_43 : decode cX7_sue 43 = .ok (.iastore, 1) := dk_79 (dk_at dksX7_sue_1 19 rfl rfl)
theorem dX7_sue_44 : decode cX7_sue 44 = .ok (.aload_n 0, 1) := dk_42 (dk_at dksX7_sue_1 20 rfl rfl)
theorem dX7_sue_45 : decode cX7_sue 45 = .ok (.getfield 7, 3) := dk_180 0 7 (dk_at dksX7_sue_1 21 rfl rfl)
theorem dX7_sue_48 : decode cX7_sue 48 = .ok (.bipush 32, 2) := dk_16 32 (dk_at dksX7_sue_2 0 rfl rfl)
theorem dX7_sue_50 : decode cX7_sue 50 = .ok (.iload_n 3, 1) := dk_29 (dk_at dksX7_sue_2 2 rfl rfl)
theorem dX7_sue_51 : decode cX7_sue 51 = .ok (.iadd, 1) := dk_96 (dk_at dksX7_sue_2 3 rfl rfl)
theorem dX7_sue_52 : decode cX7_sue 52 = .ok (.iload_n 2, 1) := dk_28 (dk_at dksX7_sue_2 4 rfl rfl)
theorem dX7_sue_53 : decode cX7_sue 53 = .ok (.iastore, 1) := dk_79 (dk_at dksX7_sue_2 5 rfl rfl)
theorem dX7_sue_54 : decode cX7_sue 54 = .ok (.aload_n 0, 1) := dk_42 (dk_at dksX7_sue_2 6 rfl rfl)
theorem dX7_sue_55 : decode cX7_sue 55 = .ok (.getfield 7, 3) := dk_180 0 7 (dk_at dksX7_sue_2 7 rfl rfl)
theorem dX7_sue_58 : decode cX7_sue 58 = .ok (.bipush 40, 2) := dk_16 40 (dk_at dksX7_sue_2 10 rfl rfl)
theorem dX7_sue_60 : decode cX7_sue 60 = .ok (.dup2, 1) := dk_92 (dk_at dksX7_sue_2 12 rfl rfl)
theorem dX7_sue_61 : decode cX7_sue 61 = .ok (.iaload, 1) := dk_46 (dk_at dksX7_sue_2 13 rfl rfl)
theorem dX7_sue_62 : decode cX7_sue 62 = .ok (.iconst 1, 1) := dk_4 (dk_at dksX7_sue_2 14 rfl rfl)
theorem dX7_sue_63 : decode cX7_sue 63 = .ok (.iadd, 1) := dk_96 (dk_at dksX7_sue_2 15 rfl rfl)
theorem dX7_sue_64 : decode cX7_sue 64 = .ok (.iastore, 1) := dk_79 (dk_at dksX7_sue_2 16 rfl rfl)
theorem dX7_sue_65 : decode cX7_sue 65 = .ok (.aload_n 0, 1) := dk_42 (dk_at dksX7_sue_2 17 rfl rfl)
theorem dX7_sue_66 : decode cX7_sue 66 = .ok (.getfield 7, 3) := dk_180 0 7 (dk_at dksX7_sue_2 18 rfl rfl)
theorem dX7_sue_69 : decode cX7_sue 69 = .ok (.bipush 40, 2) := dk_16 40 (dk_at dksX7_sue_2 21 rfl rfl)
theorem dX7_sue_71 : decode cX7_sue 71 = .ok (.iaload, 1) := dk_46 (dk_at dksX7_sue_2 23 rfl rfl)
theorem dX7_sue_72 : decode cX7_sue 72 = .ok (.ireturn, 1) := dk_172 (dk_at dksX7_sue_3 0 rfl rfl)
abbrev cX7_isColumn : ByteArray := prog_11_method_22_code
def yX7_isColumn : MethodName := ⟨RX7, "isColumn", "(I)Z"⟩
def dkwX7_isColumn_0 : List UInt8 := [26, 133, 9, 20, 0, 135, 184, 0, 49, 172]
abbrev dktX7_isColumn_0 : List UInt8 := dkwX7_isColumn_0 ++ []
theorem dksX7_isColumn_0 : cX7_isColumn.data.toList.drop 0 = dktX7_isColumn_0 := by decide +kernel
theorem dX7_isColumn_0 : decode cX7_isColumn 0 = .ok (.iload_n 0, 1) := dk_26 (dk_at dksX7_isColumn_0 0 rfl rfl)
theorem dX7_isColumn_1 : decode cX7_isColumn 1 = .ok (.i2l, 1) := dk_133 (dk_at dksX7_isColumn_0 1 rfl rfl)
theorem dX7_isColumn_2 : decode cX7_isColumn 2 = .ok (.lconst 0, 1) := dk_9 (dk_at dksX7_isColumn_0 2 rfl rfl)
theorem dX7_isColumn_3 : decode cX7_isColumn 3 = .ok (.ldc2_w 135, 3) := dk_20 0 135 (dk_at dksX7_isColumn_0 3 rfl rfl)
theorem dX7_isColumn_6 : decode cX7_isColumn 6 = .ok (.invokestatic 49, 3) := dk_184 0 49 (dk_at dksX7_isColumn_0 6 rfl rfl)
theorem dX7_isColumn_9 : decode cX7_isColumn 9 = .ok (.ireturn, 1) := dk_172 (dk_at dksX7_isColumn_0 9 rfl rfl)
abbrev cX7_drop : ByteArray := prog_11_method_49_code
def yX7_drop : MethodName := ⟨RX7, "drop", "(I)I"⟩
def dkwX7_drop_0 : List UInt8 := [42, 27, 133, 9, 42, 180, 0, 7, 16, 40, 46, 133, 184, 0, 49, 16, 40, 27, 182, 0, 193, 172]
abbrev dktX7_drop_0 : List UInt8 := dkwX7_drop_0 ++ []
theorem dksX7_drop_0 : cX7_drop.data.toList.drop 0 = dktX7_drop_0 := by decide +kernel
theorem dX7_drop_0 : decode cX7_drop 0 = .ok (.aload_n 0, 1) := dk_42 (dk_at dksX7_drop_0 0 rfl rfl)
theorem dX7_drop_1 : decode cX7_drop 1 = .ok (.iload_n 1, 1) := dk_27 (dk_at dksX7_drop_0 1 rfl rfl)
theorem dX7_drop_2 : decode cX7_drop 2 = .ok (.i2l, 1) := dk_133 (dk_at dksX7_drop_0 2 rfl rfl)
theorem dX7_drop_3 : decode cX7_drop 3 = .ok (.lconst 0, 1) := dk_9 (dk_at dksX7_drop_0 3 rfl rfl)
theorem dX7_drop_4 : decode cX7_drop 4 = .ok (.aload_n 0, 1) := dk_42 (dk_at dksX7_drop_0 4 rfl rfl)
theorem dX7_drop_5 : decode cX7_drop 5 = .ok (.getfield 7, 3) := dk_180 0 7 (dk_at dksX7_drop_0 5 rfl rfl)
theorem dX7_drop_8 : decode cX7_drop 8 = .ok (.bipush 40, 2) := dk_16 40 (dk_at dksX7_drop_0 8 rfl rfl)
theorem dX7_drop_10 : decode cX7_drop 10 = .ok (.iaload, 1) := dk_46 (dk_at dksX7_drop_0 10 rfl rfl)
theorem dX7_drop_11 : decode cX7_drop 11 = .ok (.i2l, 1) := dk_133 (dk_at dksX7_drop_0 11 rfl rfl)
theorem dX7_drop_12 : decode cX7_drop 12 = .ok (.invokestatic 49, 3) := dk_184 0 49 (dk_at dksX7_drop_0 12 rfl rfl)
theorem dX7_drop_15 : decode cX7_drop 15 = .ok (.bipush 40, 2) := dk_16 40 (dk_at dksX7_drop_0 15 rfl rfl)
theorem dX7_drop_17 : decode cX7_drop 17 = .ok (.iload_n 1, 1) := dk_27 (dk_at dksX7_drop_0 17 rfl rfl)
theorem dX7_drop_18 : decode cX7_drop 18 = .ok (.invokevirtual 193, 3) := dk_182 0 193 (dk_at dksX7_drop_0 18 rfl rfl)
theorem dX7_drop_21 : decode cX7_drop 21 = .ok (.ireturn, 1) := dk_172 (dk_at dksX7_drop_0 21 rfl rfl)
abbrev cX7_run : ByteArray := prog_11_method_50_code
def yX7_run : MethodName := ⟨RX7, "run", "(III)I"⟩
def dkwX7_run_4 : List UInt8 := [167, 0, 4, 3, 172]
abbrev dktX7_run_4 : List UInt8 := dkwX7_run_4 ++ []
def dkwX7_run_3 : List UInt8 := [167, 0, 27, 29, 6, 160, 0, 10, 42, 180, 0, 151, 167, 0, 15, 42, 180, 0, 154, 153, 0, 7, 4]
abbrev dktX7_run_3 : List UInt8 := dkwX7_run_3 ++ dktX7_run_4
def dkwX7_run_2 : List UInt8 := [167, 0, 49, 29, 4, 160, 0, 8, 21, 4, 167, 0, 39, 29, 5, 160, 0, 10, 42, 180, 0, 148]
abbrev dktX7_run_2 : List UInt8 := dkwX7_run_2 ++ dktX7_run_3
def dkwX7_run_1 : List UInt8 := [154, 0, 5, 2, 172, 42, 3, 27, 28, 182, 0, 168, 54, 4, 29, 154, 0, 10, 42, 180, 0, 145]
abbrev dktX7_run_1 : List UInt8 := dkwX7_run_1 ++ dktX7_run_2
def dkwX7_run_0 : List UInt8 := [42, 27, 182, 0, 180, 153, 0, 22, 28, 184, 0, 213, 153, 0, 15, 29, 133, 9, 20, 0, 216, 184, 0, 49]
abbrev dktX7_run_0 : List UInt8 := dkwX7_run_0 ++ dktX7_run_1
theorem dksX7_run_0 : cX7_run.data.toList.drop 0 = dktX7_run_0 := by decide +kernel
theorem dksX7_run_1 : cX7_run.data.toList.drop 24 = dktX7_run_1 := dk_seg dksX7_run_0 24 rfl rfl
theorem dksX7_run_2 : cX7_run.data.toList.drop 46 = dktX7_run_2 := dk_seg dksX7_run_1 22 rfl rfl
theorem dksX7_run_3 : cX7_run.data.toList.drop 68 = dktX7_run_3 := dk_seg dksX7_run_2 22 rfl rfl
theorem dksX7_run_4 : cX7_run.data.toList.drop 91 = dktX7_run_4 := dk_seg dksX7_run_3 23 rfl rfl
theorem dX7_run_0 : decode cX7_run 0 = .ok (.aload_n 0, 1) := dk_42 (dk_at dksX7_run_0 0 rfl rfl)
theorem dX7_run_1 : decode cX7_run 1 = .ok (.iload_n 1, 1) := dk_27 (dk_at dksX7_run_0 1 rfl rfl)
theorem dX7_run_2 : decode cX7_run 2 = .ok (.invokevirtual 180, 3) := dk_182 0 180 (dk_at dksX7_run_0 2 rfl rfl)
theorem dX7_run_5 : decode cX7_run 5 = .ok (.ifCond .eq 22, 3) := dk_153 0 22 (dk_at dksX7_run_0 5 rfl rfl)
theorem dX7_run_8 : decode cX7_run 8 = .ok (.iload_n 2, 1) := dk_28 (dk_at dksX7_run_0 8 rfl rfl)
theorem dX7_run_9 : decode cX7_run 9 = .ok (.invokestatic 213, 3) := dk_184 0 213 (dk_at dksX7_run_0 9 rfl rfl)
theorem dX7_run_12 : decode cX7_run 12 = .ok (.ifCond .eq 15, 3) := dk_153 0 15 (dk_at dksX7_run_0 12 rfl rfl)
theorem dX7_run_15 : decode cX7_run 15 = .ok (.iload_n 3, 1) := dk_29 (dk_at dksX7_run_0 15 rfl rfl)
theorem dX7_run_16 : decode cX7_run 16 = .ok (.i2l, 1) := dk_133 (dk_at dksX7_run_0 16 rfl rfl)
theorem dX7_run_17 : decode cX7_run 17 = .ok (.lconst 0, 1) := dk_9 (dk_at dksX7_run_0 17 rfl rfl)
theorem dX7_run_18 : decode cX7_run 18 = .ok (.ldc2_w 216, 3) := dk_20 0 216 (dk_at dksX7_run_0 18 rfl rfl)
theorem dX7_run_21 : decode cX7_run 21 = .ok (.invokestatic 49, 3) := dk_184 0 49 (dk_at dksX7_run_0 21 rfl rfl)
theorem dX7_run_24 : decode cX7_run 24 = .ok (.ifCond .ne 5, 3) := dk_154 0 5 (dk_at dksX7_run_1 0 rfl rfl)
theorem dX7_run_27 : decode cX7_run 27 = .ok (.iconst (-1), 1) := dk_2 (dk_at dksX7_run_1 3 rfl rfl)
theorem dX7_run_28 : decode cX7_run 28 = .ok (.ireturn, 1) := dk_172 (dk_at dksX7_run_1 4 rfl rfl)
theorem dX7_run_29 : decode cX7_run 29 = .ok (.aload_n 0, 1) := dk_42 (dk_at dksX7_run_1 5 rfl rfl)
theorem dX7_run_30 : decode cX7_run 30 = .ok (.iconst 0, 1) := dk_3 (dk_at dksX7_run_1 6 rfl rfl)
theorem dX7_run_31 : decode cX7_run 31 = .ok (.iload_n 1, 1) := dk_27 (dk_at dksX7_run_1 7 rfl rfl)
theorem dX7_run_32 : decode cX7_run 32 = .ok (.iload_n 2, 1) := dk_28 (dk_at dksX7_run_1 8 rfl rfl)
theorem dX7_run_33 : decode cX7_run 33 = .ok (.invokevirtual 168, 3) := dk_182 0 168 (dk_at dksX7_run_1 9 rfl rfl)
theorem dX7_run_36 : decode cX7_run 36 = .ok (.istore 4, 2) := dk_54 4 (dk_at dksX7_run_1 12 rfl rfl)
theorem dX7_run_38 : decode cX7_run 38 = .ok (.iload_n 3, 1) := dk_29 (dk_at dksX7_run_1 14 rfl rfl)
theorem dX7_run_39 : decode cX7_run 39 = .ok (.ifCond .ne 10, 3) := dk_154 0 10 (dk_at dksX7_run_1 15 rfl rfl)
theorem dX7_run_42 : decode cX7_run 42 = .ok (.aload_n 0, 1) := dk_42 (dk_at dksX7_run_1 18 rfl rfl)
theorem dX7_run_43 : decode cX7_run 43 = .ok (.getfield 145, 3) := dk_180 0 145 (dk_at dksX7_run_1 19 rfl rfl)
theorem dX7_run_46 : decode cX7_run 46 = .ok (.goto 49, 3) := dk_167 0 49 (dk_at dksX7_run_2 0 rfl rfl)
theorem dX7_run_49 : decode cX7_run 49 = .ok (.iload_n 3, 1) := dk_29 (dk_at dksX7_run_2 3 rfl rfl)
theorem dX7_run_50 : decode cX7_run 50 = .ok (.iconst 1, 1) := dk_4 (dk_at dksX7_run_2 4 rfl rfl)
theorem dX7_run_51 : decode cX7_run 51 = .ok (.if_icmp .ne 8, 3) := dk_160 0 8 (dk_at dksX7_run_2 5 rfl rfl)
theorem dX7_run_54 : decode cX7_run 54 = .ok (.iload 4, 2) := dk_21 4 (dk_at dksX7_run_2 8 rfl rfl)
theorem dX7_run_56 : decode cX7_run 56 = .ok (.goto 39, 3) := dk_167 0 39 (dk_at dksX7_run_2 10 rfl rfl)
theorem dX7_run_59 : decode cX7_run 59 = .ok (.iload_n 3, 1) := dk_29 (dk_at dksX7_run_2 13 rfl rfl)
theorem dX7_run_60 : decode cX7_run 60 = .ok (.iconst 2, 1) := dk_5 (dk_at dksX7_run_2 14 rfl rfl)
theorem dX7_run_61 : decode cX7_run 61 = .ok (.if_icmp .ne 10, 3) := dk_160 0 10 (dk_at dksX7_run_2 15 rfl rfl)
theorem dX7_run_64 : decode cX7_run 64 = .ok (.aload_n 0, 1) := dk_42 (dk_at dksX7_run_2 18 rfl rfl)
theorem dX7_run_65 : decode cX7_run 65 = .ok (.getfield 148, 3) := dk_180 0 148 (dk_at dksX7_run_2 19 rfl rfl)
theorem dX7_run_68 : decode cX7_run 68 = .ok (.goto 27, 3) := dk_167 0 27 (dk_at dksX7_run_3 0 rfl rfl)
theorem dX7_run_71 : decode cX7_run 71 = .ok (.iload_n 3, 1) := dk_29 (dk_at dksX7_run_3 3 rfl rfl)
theorem dX7_run_72 : decode cX7_run 72 = .ok (.iconst 3, 1) := dk_6 (dk_at dksX7_run_3 4 rfl rfl)
theorem dX7_run_73 : decode cX7_run 73 = .ok (.if_icmp .ne 10, 3) := dk_160 0 10 (dk_at dksX7_run_3 5 rfl rfl)
theorem dX7_run_76 : decode cX7_run 76 = .ok (.aload_n 0, 1) := dk_42 (dk_at dksX7_run_3 8 rfl rfl)
theorem dX7_run_77 : decode cX7_run 77 = .ok (.getfield 151, 3) := dk_180 0 151 (dk_at dksX7_run_3 9 rfl rfl)
theorem dX7_run_80 : decode cX7_run 80 = .ok (.goto 15, 3) := dk_167 0 15 (dk_at dksX7_run_3 12 rfl rfl)
theorem dX7_run_83 : decode cX7_run 83 = .ok (.aload_n 0, 1) := dk_42 (dk_at dksX7_run_3 15 rfl rfl)
theorem dX7_run_84 : decode cX7_run 84 = .ok (.getfield 154, 3) := dk_180 0 154 (dk_at dksX7_run_3 16 rfl rfl)
theorem dX7_run_87 : decode cX7_run 87 = .ok (.ifCond .eq 7, 3) := dk_153 0 7 (dk_at dksX7_run_3 19 rfl rfl)
theorem dX7_run_90 : decode cX7_run 90 = .ok (.iconst 1, 1) := dk_4 (dk_at dksX7_run_3 22 rfl rfl)
theorem dX7_run_91 : decode cX7_run 91 = .ok (.goto 4, 3) := dk_167 0 4 (dk_at dksX7_run_4 0 rfl rfl)
theorem dX7_run_94 : decode cX7_run 94 = .ok (.iconst 0, 1) := dk_3 (dk_at dksX7_run_4 3 rfl rfl)
theorem dX7_run_95 : decode cX7_run 95 = .ok (.ireturn, 1) := dk_172 (dk_at dksX7_run_4 4 rfl rfl)
abbrev cX7_way : ByteArray := prog_11_method_51_code
def yX7_way : MethodName := ⟨RX7, "way", "(III)I"⟩
def dkwX7_way_2 : List UInt8 := [180, 0, 25, 29, 46, 167, 0, 5, 16, 252, 172]
abbrev dktX7_way_2 : List UInt8 := dkwX7_way_2 ++ []
def dkwX7_way_1 : List UInt8 := [154, 0, 5, 2, 172, 42, 3, 27, 28, 3, 182, 0, 164, 29, 42, 180, 0, 148, 163, 0, 12, 42]
abbrev dktX7_way_1 : List UInt8 := dkwX7_way_1 ++ dktX7_way_2
def dkwX7_way_0 : List UInt8 := [42, 27, 182, 0, 180, 153, 0, 22, 28, 184, 0, 213, 153, 0, 15, 29, 133, 9, 20, 0, 200, 184, 0, 49]
abbrev dktX7_way_0 : List UInt8 := dkwX7_way_0 ++ dktX7_way_1
theorem dksX7_way_0 : cX7_way.data.toList.drop 0 = dktX7_way_0 := by decide +kernel
theorem dksX7_way_1 : cX7_way.data.toList.drop 24 = dktX7_way_1 := dk_seg dksX7_way_0 24 rfl rfl
theorem dksX7_way_2 : cX7_way.data.toList.drop 46 = dktX7_way_2 := dk_seg dksX7_way_1 22 rfl rfl
theorem dX7_way_0 : decode cX7_way 0 = .ok (.aload_n 0, 1) := dk_42 (dk_at dksX7_way_0 0 rfl rfl)
theorem dX7_way_1 : decode cX7_way 1 = .ok (.iload_n 1, 1) := dk_27 (dk_at dksX7_way_0 1 rfl rfl)
theorem dX7_way_2 : decode cX7_way 2 = .ok (.invokevirtual 180, 3) := dk_182 0 180 (dk_at dksX7_way_0 2 rfl rfl)
theorem dX7_way_5 : decode cX7_way 5 = .ok (.ifCond .eq 22, 3) := dk_153 0 22 (dk_at dksX7_way_0 5 rfl rfl)
theorem dX7_way_8 : decode cX7_way 8 = .ok (.iload_n 2, 1) := dk_28 (dk_at dksX7_way_0 8 rfl rfl)
theorem dX7_way_9 : decode cX7_way 9 = .ok (.invokestatic 213, 3) := dk_184 0 213 (dk_at dksX7_way_0 9 rfl rfl)
theorem dX7_way_12 : decode cX7_way 12 = .ok (.ifCond .eq 15, 3) := dk_153 0 15 (dk_at dksX7_way_0 12 rfl rfl)
theorem dX7_way_15 : decode cX7_way 15 = .ok (.iload_n 3, 1) := dk_29 (dk_at dksX7_way_0 15 rfl rfl)
theorem dX7_way_16 : decode cX7_way 16 = .ok (.i2l, 1) := dk_133 (dk_at dksX7_way_0 16 rfl rfl)
theorem dX7_way_17 : decode cX7_way 17 = .ok (.lconst 0, 1) := dk_9 (dk_at dksX7_way_0 17 rfl rfl)
theorem dX7_way_18 : decode cX7_way 18 = .ok (.ldc2_w 200, 3) := dk_20 0 200 (dk_at dksX7_way_0 18 rfl rfl)
theorem dX7_way_21 : decode cX7_way 21 = .ok (.invokestatic 49, 3) := dk_184 0 49 (dk_at dksX7_way_0 21 rfl rfl)
theorem dX7_way_24 : decode cX7_way 24 = .ok (.ifCond .ne 5, 3) := dk_154 0 5 (dk_at dksX7_way_1 0 rfl rfl)
theorem dX7_way_27 : decode cX7_way 27 = .ok (.iconst (-1), 1) := dk_2 (dk_at dksX7_way_1 3 rfl rfl)
theorem dX7_way_28 : decode cX7_way 28 = .ok (.ireturn, 1) := dk_172 (dk_at dksX7_way_1 4 rfl rfl)
theorem dX7_way_29 : decode cX7_way 29 = .ok (.aload_n 0, 1) := dk_42 (dk_at dksX7_way_1 5 rfl rfl)
theorem dX7_way_30 : decode cX7_way 30 = .ok (.iconst 0, 1) := dk_3 (dk_at dksX7_way_1 6 rfl rfl)
theorem dX7_way_31 : decode cX7_way 31 = .ok (.iload_n 1, 1) := dk_27 (dk_at dksX7_way_1 7 rfl rfl)
theorem dX7_way_32 : decode cX7_way 32 = .ok (.iload_n 2, 1) := dk_28 (dk_at dksX7_way_1 8 rfl rfl)
theorem dX7_way_33 : decode cX7_way 33 = .ok (.iconst 0, 1) := dk_3 (dk_at dksX7_way_1 9 rfl rfl)
theorem dX7_way_34 : decode cX7_way 34 = .ok (.invokevirtual 164, 3) := dk_182 0 164 (dk_at dksX7_way_1 10 rfl rfl)
theorem dX7_way_37 : decode cX7_way 37 = .ok (.iload_n 3, 1) := dk_29 (dk_at dksX7_way_1 13 rfl rfl)
theorem dX7_way_38 : decode cX7_way 38 = .ok (.aload_n 0, 1) := dk_42 (dk_at dksX7_way_1 14 rfl rfl)
theorem dX7_way_39 : decode cX7_way 39 = .ok (.getfield 148, 3) := dk_180 0 148 (dk_at dksX7_way_1 15 rfl rfl)
theorem dX7_way_42 : decode cX7_way 42 = .ok (.if_icmp .gt 12, 3) := dk_163 0 12 (dk_at dksX7_way_1 18 rfl rfl)
theorem dX7_way_45 : decode cX7_way 45 = .ok (.aload_n 0, 1) := dk_42 (dk_at dksX7_way_1 21 rfl rfl)
theorem dX7_way_46 : decode cX7_way 46 = .ok (.getfield 25, 3) := dk_180 0 25 (dk_at dksX7_way_2 0 rfl rfl)
theorem dX7_way_49 : decode cX7_way 49 = .ok (.iload_n 3, 1) := dk_29 (dk_at dksX7_way_2 3 rfl rfl)
theorem dX7_way_50 : decode cX7_way 50 = .ok (.iaload, 1) := dk_46 (dk_at dksX7_way_2 4 rfl rfl)
theorem dX7_way_51 : decode cX7_way 51 = .ok (.goto 5, 3) := dk_167 0 5 (dk_at dksX7_way_2 5 rfl rfl)
theorem dX7_way_54 : decode cX7_way 54 = .ok (.bipush (-4), 2) := dk_16 252 (dk_at dksX7_way_2 8 rfl rfl)
theorem dX7_way_56 : decode cX7_way 56 = .ok (.ireturn, 1) := dk_172 (dk_at dksX7_way_2 10 rfl rfl)
abbrev cX7_wins : ByteArray := prog_11_method_52_code
def yX7_wins : MethodName := ⟨RX7, "wins", "(I)I"⟩
def dkwX7_wins_0 : List UInt8 := [27, 184, 0, 197, 153, 0, 12, 42, 3, 27, 182, 0, 172, 167, 0, 4, 2, 172]
abbrev dktX7_wins_0 : List UInt8 := dkwX7_wins_0 ++ []
theorem dksX7_wins_0 : cX7_wins.data.toList.drop 0 = dktX7_wins_0 := by decide +kernel
theorem dX7_wins_0 : decode cX7_wins 0 = .ok (.iload_n 1, 1) := dk_27 (dk_at dksX7_wins_0 0 rfl rfl)
theorem dX7_wins_1 : decode cX7_wins 1 = .ok (.invokestatic 197, 3) := dk_184 0 197 (dk_at dksX7_wins_0 1 rfl rfl)
theorem dX7_wins_4 : decode cX7_wins 4 = .ok (.ifCond .eq 12, 3) := dk_153 0 12 (dk_at dksX7_wins_0 4 rfl rfl)
theorem dX7_wins_7 : decode cX7_wins 7 = .ok (.aload_n 0, 1) := dk_42 (dk_at dksX7_wins_0 7 rfl rfl)
theorem dX7_wins_8 : decode cX7_wins 8 = .ok (.iconst 0, 1) := dk_3 (dk_at dksX7_wins_0 8 rfl rfl)
theorem dX7_wins_9 : decode cX7_wins 9 = .ok (.iload_n 1, 1) := dk_27 (dk_at dksX7_wins_0 9 rfl rfl)
theorem dX7_wins_10 : decode cX7_wins 10 = .ok (.invokevirtual 172, 3) := dk_182 0 172 (dk_at dksX7_wins_0 10 rfl rfl)
theorem dX7_wins_13 : decode cX7_wins 13 = .ok (.goto 4, 3) := dk_167 0 4 (dk_at dksX7_wins_0 13 rfl rfl)
theorem dX7_wins_16 : decode cX7_wins 16 = .ok (.iconst (-1), 1) := dk_2 (dk_at dksX7_wins_0 16 rfl rfl)
theorem dX7_wins_17 : decode cX7_wins 17 = .ok (.ireturn, 1) := dk_172 (dk_at dksX7_wins_0 17 rfl rfl)
abbrev cX7_share : ByteArray := prog_11_method_53_code
def yX7_share : MethodName := ⟨RX7, "share", "(II)I"⟩
def dkwX7_share_2 : List UInt8 := [62, 132, 4, 1, 167, 255, 226, 29, 172]
abbrev dktX7_share_2 : List UInt8 := dkwX7_share_2 ++ []
def dkwX7_share_1 : List UInt8 := [16, 8, 162, 0, 29, 29, 42, 3, 27, 21, 4, 182, 0, 168, 28, 160, 0, 7, 4, 167, 0, 4, 3, 96]
abbrev dktX7_share_1 : List UInt8 := dkwX7_share_1 ++ dktX7_share_2
def dkwX7_share_0 : List UInt8 := [42, 27, 182, 0, 180, 153, 0, 10, 28, 184, 0, 197, 154, 0, 5, 2, 172, 3, 62, 3, 54, 4, 21, 4]
abbrev dktX7_share_0 : List UInt8 := dkwX7_share_0 ++ dktX7_share_1
theorem dksX7_share_0 : cX7_share.data.toList.drop 0 = dktX7_share_0 := by decide +kernel
theorem dksX7_share_1 : cX7_share.data.toList.drop 24 = dktX7_share_1 := dk_seg dksX7_share_0 24 rfl rfl
theorem dksX7_share_2 : cX7_share.data.toList.drop 48 = dktX7_share_2 := dk_seg dksX7_share_1 24 rfl rfl
theorem dX7_share_0 : decode cX7_share 0 = .ok (.aload_n 0, 1) := dk_42 (dk_at dksX7_share_0 0 rfl rfl)
theorem dX7_share_1 : decode cX7_share 1 = .ok (.iload_n 1, 1) := dk_27 (dk_at dksX7_share_0 1 rfl rfl)
theorem dX7_share_2 : decode cX7_share 2 = .ok (.invokevirtual 180, 3) := dk_182 0 180 (dk_at dksX7_share_0 2 rfl rfl)
theorem dX7_share_5 : decode cX7_share 5 = .ok (.ifCond .eq 10, 3) := dk_153 0 10 (dk_at dksX7_share_0 5 rfl rfl)
theorem dX7_share_8 : decode cX7_share 8 = .ok (.iload_n 2, 1) := dk_28 (dk_at dksX7_share_0 8 rfl rfl)
theorem dX7_share_9 : decode cX7_share 9 = .ok (.invokestatic 197, 3) := dk_184 0 197 (dk_at dksX7_share_0 9 rfl rfl)
theorem dX7_share_12 : decode cX7_share 12 = .ok (.ifCond .ne 5, 3) := dk_154 0 5 (dk_at dksX7_share_0 12 rfl rfl)
theorem dX7_share_15 : decode cX7_share 15 = .ok (.iconst (-1), 1) := dk_2 (dk_at dksX7_share_0 15 rfl rfl)
theorem dX7_share_16 : decode cX7_share 16 = .ok (.ireturn, 1) := dk_172 (dk_at dksX7_share_0 16 rfl rfl)
theorem dX7_share_17 : decode cX7_share 17 = .ok (.iconst 0, 1) := dk_3 (dk_at dksX7_share_0 17 rfl rfl)
theorem dX7_share_18 : decode cX7_share 18 = .ok (.istore_n 3, 1) := dk_62 (dk_at dksX7_share_0 18 rfl rfl)
theorem dX7_share_19 : decode cX7_share 19 = .ok (.iconst 0, 1) := dk_3 (dk_at dksX7_share_0 19 rfl rfl)
theorem dX7_share_20 : decode cX7_share 20 = .ok (.istore 4, 2) := dk_54 4 (dk_at dksX7_share_0 20 rfl rfl)
theorem dX7_share_22 : decode cX7_share 22 = .ok (.iload 4, 2) := dk_21 4 (dk_at dksX7_share_0 22 rfl rfl)
theorem dX7_share_24 : decode cX7_share 24 = .ok (.bipush 8, 2) := dk_16 8 (dk_at dksX7_share_1 0 rfl rfl)
theorem dX7_share_26 : decode cX7_share 26 = .ok (.if_icmp .ge 29, 3) := dk_162 0 29 (dk_at dksX7_share_1 2 rfl rfl)
theorem dX7_share_29 : decode cX7_share 29 = .ok (.iload_n 3, 1) := dk_29 (dk_at dksX7_share_1 5 rfl rfl)
theorem dX7_share_30 : decode cX7_share 30 = .ok (.aload_n 0, 1) := dk_42 (dk_at dksX7_share_1 6 rfl rfl)
theorem dX7_share_31 : decode cX7_share 31 = .ok (.iconst 0, 1) := dk_3 (dk_at dksX7_share_1 7 rfl rfl)
theorem dX7_share_32 : decode cX7_share 32 = .ok (.iload_n 1, 1) := dk_27 (dk_at dksX7_share_1 8 rfl rfl)
theorem dX7_share_33 : decode cX7_share 33 = .ok (.iload 4, 2) := dk_21 4 (dk_at dksX7_share_1 9 rfl rfl)
theorem dX7_share_35 : decode cX7_share 35 = .ok (.invokevirtual 168, 3) := dk_182 0 168 (dk_at dksX7_share_1 11 rfl rfl)
theorem dX7_share_38 : decode cX7_share 38 = .ok (.iload_n 2, 1) := dk_28 (dk_at dksX7_share_1 14 rfl rfl)
theorem dX7_share_39 : decode cX7_share 39 = .ok (.if_icmp .ne 7, 3) := dk_160 0 7 (dk_at dksX7_share_1 15 rfl rfl)
theorem dX7_share_42 : decode cX7_share 42 = .ok (.iconst 1, 1) := dk_4 (dk_at dksX7_share_1 18 rfl rfl)
theorem dX7_share_43 : decode cX7_share 43 = .ok (.goto 4, 3) := dk_167 0 4 (dk_at dksX7_share_1 19 rfl rfl)
theorem dX7_share_46 : decode cX7_share 46 = .ok (.iconst 0, 1) := dk_3 (dk_at dksX7_share_1 22 rfl rfl)
theorem dX7_share_47 : decode cX7_share 47 = .ok (.iadd, 1) := dk_96 (dk_at dksX7_share_1 23 rfl rfl)
theorem dX7_share_48 : decode cX7_share 48 = .ok (.istore_n 3, 1) := dk_62 (dk_at dksX7_share_2 0 rfl rfl)
theorem dX7_share_49 : decode cX7_share 49 = .ok (.iinc 4 1, 3) := dk_132 4 1 (dk_at dksX7_share_2 1 rfl rfl)
theorem dX7_share_52 : decode cX7_share 52 = .ok (.goto (-30), 3) := dk_167 255 226 (dk_at dksX7_share_2 4 rfl rfl)
theorem dX7_share_55 : decode cX7_share 55 = .ok (.iload_n 3, 1) := dk_29 (dk_at dksX7_share_2 7 rfl rfl)
theorem dX7_share_56 : decode cX7_share 56 = .ok (.ireturn, 1) := dk_172 (dk_at dksX7_share_2 8 rfl rfl)
abbrev cX7_first : ByteArray := prog_11_method_54_code
def yX7_first : MethodName := ⟨RX7, "first", "(II)I"⟩
def dkwX7_first_2 : List UInt8 := [172]
abbrev dktX7_first_2 : List UInt8 := dkwX7_first_2 ++ []
def dkwX7_first_1 : List UInt8 := [162, 0, 22, 42, 3, 27, 29, 182, 0, 168, 28, 160, 0, 5, 29, 172, 132, 3, 1, 167, 255, 234, 16, 252]
abbrev dktX7_first_1 : List UInt8 := dkwX7_first_1 ++ dktX7_first_2
def dkwX7_first_0 : List UInt8 := [42, 27, 182, 0, 180, 153, 0, 10, 28, 184, 0, 197, 154, 0, 5, 2, 172, 3, 62, 29, 16, 8]
abbrev dktX7_first_0 : List UInt8 := dkwX7_first_0 ++ dktX7_first_1
theorem dksX7_first_0 : cX7_first.data.toList.drop 0 = dktX7_first_0 := by decide +kernel
theorem dksX7_first_1 : cX7_first.data.toList.drop 22 = dktX7_first_1 := dk_seg dksX7_first_0 22 rfl rfl
theorem dksX7_first_2 : cX7_first.data.toList.drop 46 = dktX7_first_2 := dk_seg dksX7_first_1 24 rfl rfl
theorem dX7_first_0 : decode cX7_first 0 = .ok (.aload_n 0, 1) := dk_42 (dk_at dksX7_first_0 0 rfl rfl)
theorem dX7_first_1 : decode cX7_first 1 = .ok (.iload_n 1, 1) := dk_27 (dk_at dksX7_first_0 1 rfl rfl)
theorem dX7_first_2 : decode cX7_first 2 = .ok (.invokevirtual 180, 3) := dk_182 0 180 (dk_at dksX7_first_0 2 rfl rfl)
theorem dX7_first_5 : decode cX7_first 5 = .ok (.ifCond .eq 10, 3) := dk_153 0 10 (dk_at dksX7_first_0 5 rfl rfl)
theorem dX7_first_8 : decode cX7_first 8 = .ok (.iload_n 2, 1) := dk_28 (dk_at dksX7_first_0 8 rfl rfl)
theorem dX7_first_9 : decode cX7_first 9 = .ok (.invokestatic 197, 3) := dk_184 0 197 (dk_at dksX7_first_0 9 rfl rfl)
theorem dX7_first_12 : decode cX7_first 12 = .ok (.ifCond .ne 5, 3) := dk_154 0 5 (dk_at dksX7_first_0 12 rfl rfl)
theorem dX7_first_15 : decode cX7_first 15 = .ok (.iconst (-1), 1) := dk_2 (dk_at dksX7_first_0 15 rfl rfl)
theorem dX7_first_16 : decode cX7_first 16 = .ok (.ireturn, 1) := dk_172 (dk_at dksX7_first_0 16 rfl rfl)
theorem dX7_first_17 : decode cX7_first 17 = .ok (.iconst 0, 1) := dk_3 (dk_at dksX7_first_0 17 rfl rfl)
theorem dX7_first_18 : decode cX7_first 18 = .ok (.istore_n 3, 1) := dk_62 (dk_at dksX7_first_0 18 rfl rfl)
theorem dX7_first_19 : decode cX7_first 19 = .ok (.iload_n 3, 1) := dk_29 (dk_at dksX7_first_0 19 rfl rfl)
theorem dX7_first_20 : decode cX7_first 20 = .ok (.bipush 8, 2) := dk_16 8 (dk_at dksX7_first_0 20 rfl rfl)
theorem dX7_first_22 : decode cX7_first 22 = .ok (.if_icmp .ge 22, 3) := dk_162 0 22 (dk_at dksX7_first_1 0 rfl rfl)
theorem dX7_first_25 : decode cX7_first 25 = .ok (.aload_n 0, 1) := dk_42 (dk_at dksX7_first_1 3 rfl rfl)
theorem dX7_first_26 : decode cX7_first 26 = .ok (.iconst 0, 1) := dk_3 (dk_at dksX7_first_1 4 rfl rfl)
theorem dX7_first_27 : decode cX7_first 27 = .ok (.iload_n 1, 1) := dk_27 (dk_at dksX7_first_1 5 rfl rfl)
theorem dX7_first_28 : decode cX7_first 28 = .ok (.iload_n 3, 1) := dk_29 (dk_at dksX7_first_1 6 rfl rfl)
theorem dX7_first_29 : decode cX7_first 29 = .ok (.invokevirtual 168, 3) := dk_182 0 168 (dk_at dksX7_first_1 7 rfl rfl)
theorem dX7_first_32 : decode cX7_first 32 = .ok (.iload_n 2, 1) := dk_28 (dk_at dksX7_first_1 10 rfl rfl)
theorem dX7_first_33 : decode cX7_first 33 = .ok (.if_icmp .ne 5, 3) := dk_160 0 5 (dk_at dksX7_first_1 11 rfl rfl)
theorem dX7_first_36 : decode cX7_first 36 = .ok (.iload_n 3, 1) := dk_29 (dk_at dksX7_first_1 14 rfl rfl)
theorem dX7_first_37 : decode cX7_first 37 = .ok (.ireturn, 1) := dk_172 (dk_at dksX7_first_1 15 rfl rfl)
theorem dX7_first_38 : decode cX7_first 38 = .ok (.iinc 3 1, 3) := dk_132 3 1 (dk_at dksX7_first_1 16 rfl rfl)
theorem dX7_first_41 : decode cX7_first 41 = .ok (.goto (-22), 3) := dk_167 255 234 (dk_at dksX7_first_1 19 rfl rfl)
theorem dX7_first_44 : decode cX7_first 44 = .ok (.bipush (-4), 2) := dk_16 252 (dk_at dksX7_first_1 22 rfl rfl)
theorem dX7_first_46 : decode cX7_first 46 = .ok (.ireturn, 1) := dk_172 (dk_at dksX7_first_2 0 rfl rfl)
abbrev cX7_kindly : ByteArray := prog_11_method_56_code
def yX7_kindly : MethodName := ⟨RX7, "kindly", "(III)I"⟩
def dkwX7_kindly_3 : List UInt8 := [21, 5, 120, 167, 0, 4, 3, 128, 54, 4, 132, 5, 1, 167, 255, 209, 21, 4, 172]
abbrev dktX7_kindly_3 : List UInt8 := dkwX7_kindly_3 ++ []
def dkwX7_kindly_2 : List UInt8 := [17, 0, 182, 27, 96, 21, 5, 79, 21, 4, 42, 17, 0, 164, 27, 28, 182, 0, 168, 29, 160, 0, 10, 4]
abbrev dktX7_kindly_2 : List UInt8 := dkwX7_kindly_2 ++ dktX7_kindly_3
def dkwX7_kindly_1 : List UInt8 := [3, 54, 4, 42, 3, 17, 0, 164, 182, 0, 218, 3, 54, 5, 21, 5, 7, 162, 0, 47, 42, 180, 0, 7]
abbrev dktX7_kindly_1 : List UInt8 := dkwX7_kindly_1 ++ dktX7_kindly_2
def dkwX7_kindly_0 : List UInt8 := [42, 27, 182, 0, 180, 153, 0, 17, 28, 184, 0, 213, 153, 0, 10, 29, 184, 0, 197, 154, 0, 5, 2, 172]
abbrev dktX7_kindly_0 : List UInt8 := dkwX7_kindly_0 ++ dktX7_kindly_1
theorem dksX7_kindly_0 : cX7_kindly.data.toList.drop 0 = dktX7_kindly_0 := by decide +kernel
theorem dksX7_kindly_1 : cX7_kindly.data.toList.drop 24 = dktX7_kindly_1 := dk_seg dksX7_kindly_0 24 rfl rfl
theorem dksX7_kindly_2 : cX7_kindly.data.toList.drop 48 = dktX7_kindly_2 := dk_seg dksX7_kindly_1 24 rfl rfl
theorem dksX7_kindly_3 : cX7_kindly.data.toList.drop 72 = dktX7_kindly_3 := dk_seg dksX7_kindly_2 24 rfl rfl
theorem dX7_kindly_0 : decode cX7_kindly 0 = .ok (.aload_n 0, 1) := dk_42 (dk_at dksX7_kindly_0 0 rfl rfl)
theorem dX7_kindly_1 : decode cX7_kindly 1 = .ok (.iload_n 1, 1) := dk_27 (dk_at dksX7_kindly_0 1 rfl rfl)
theorem dX7_kindly_2 : decode cX7_kindly 2 = .ok (.invokevirtual 180, 3) := dk_182 0 180 (dk_at dksX7_kindly_0 2 rfl rfl)
theorem dX7_kindly_5 : decode cX7_kindly 5 = .ok (.ifCond .eq 17, 3) := dk_153 0 17 (dk_at dksX7_kindly_0 5 rfl rfl)
theorem dX7_kindly_8 : decode cX7_kindly 8 = .ok (.iload_n 2, 1) := dk_28 (dk_at dksX7_kindly_0 8 rfl rfl)
theorem dX7_kindly_9 : decode cX7_kindly 9 = .ok (.invokestatic 213, 3) := dk_184 0 213 (dk_at dksX7_kindly_0 9 rfl rfl)
theorem dX7_kindly_12 : decode cX7_kindly 12 = .ok (.ifCond .eq 10, 3) := dk_153 0 10 (dk_at dksX7_kindly_0 12 rfl rfl)
theorem dX7_kindly_15 : decode cX7_kindly 15 = .ok (.iload_n 3, 1) := dk_29 (dk_at dksX7_kindly_0 15 rfl rfl)
theorem dX7_kindly_16 : decode cX7_kindly 16 = .ok (.invokestatic 197, 3) := dk_184 0 197 (dk_at dksX7_kindly_0 16 rfl rfl)
theorem dX7_kindly_19 : decode cX7_kindly 19 = .ok (.ifCond .ne 5, 3) := dk_154 0 5 (dk_at dksX7_kindly_0 19 rfl rfl)
theorem dX7_kindly_22 : decode cX7_kindly 22 = .ok (.iconst (-1), 1) := dk_2 (dk_at dksX7_kindly_0 22 rfl rfl)
theorem dX7_kindly_23 : decode cX7_kindly 23 = .ok (.ireturn, 1) := dk_172 (dk_at dksX7_kindly_0 23 rfl rfl)
theorem dX7_kindly_24 : decode cX7_kindly 24 = .ok (.iconst 0, 1) := dk_3 (dk_at dksX7_kindly_1 0 rfl rfl)
theorem dX7_kindly_25 : decode cX7_kindly 25 = .ok (.istore 4, 2) := dk_54 4 (dk_at dksX7_kindly_1 1 rfl rfl)
theorem dX7_kindly_27 : decode cX7_kindly 27 = .ok (.aload_n 0, 1) := dk_42 (dk_at dksX7_kindly_1 3 rfl rfl)
theorem dX7_kindly_28 : decode cX7_kindly 28 = .ok (.iconst 0, 1) := dk_3 (dk_at dksX7_kindly_1 4 rfl rfl)
theorem dX7_kindly_29 : decode cX7_kindly 29 = .ok (.sipush 164, 3) := dk_17 0 164 (dk_at dksX7_kindly_1 5 rfl rfl)
theorem dX7_kindly_32 : decode cX7_kindly 32 = .ok (.invokevirtual 218, 3) := dk_182 0 218 (dk_at dksX7_kindly_1 8 rfl rfl)
theorem dX7_kindly_35 : decode cX7_kindly 35 = .ok (.iconst 0, 1) := dk_3 (dk_at dksX7_kindly_1 11 rfl rfl)
theorem dX7_kindly_36 : decode cX7_kindly 36 = .ok (.istore 5, 2) := dk_54 5 (dk_at dksX7_kindly_1 12 rfl rfl)
theorem dX7_kindly_38 : decode cX7_kindly 38 = .ok (.iload 5, 2) := dk_21 5 (dk_at dksX7_kindly_1 14 rfl rfl)
theorem dX7_kindly_40 : decode cX7_kindly 40 = .ok (.iconst 4, 1) := dk_7 (dk_at dksX7_kindly_1 16 rfl rfl)
theorem dX7_kindly_41 : decode cX7_kindly 41 = .ok (.if_icmp .ge 47, 3) := dk_162 0 47 (dk_at dksX7_kindly_1 17 rfl rfl)
theorem dX7_kindly_44 : decode cX7_kindly 44 = .ok (.aload_n 0, 1) := dk_42 (dk_at dksX7_kindly_1 20 rfl rfl)
theorem dX7_kindly_45 : decode cX7_kindly 45 = .ok (.getfield 7, 3) := dk_180 0 7 (dk_at dksX7_kindly_1 21 rfl rfl)
theorem dX7_kindly_48 : decode cX7_kindly 48 = .ok (.sipush 182, 3) := dk_17 0 182 (dk_at dksX7_kindly_2 0 rfl rfl)
theorem dX7_kindly_51 : decode cX7_kindly 51 = .ok (.iload_n 1, 1) := dk_27 (dk_at dksX7_kindly_2 3 rfl rfl)
theorem dX7_kindly_52 : decode cX7_kindly 52 = .ok (.iadd, 1) := dk_96 (dk_at dksX7_kindly_2 4 rfl rfl)
theorem dX7_kindly_53 : decode cX7_kindly 53 = .ok (.iload 5, 2) := dk_21 5 (dk_at dksX7_kindly_2 5 rfl rfl)
theorem dX7_kindly_55 : decode cX7_kindly 55 = .ok (.iastore, 1) := dk_79 (dk_at dksX7_kindly_2 7 rfl rfl)
theorem dX7_kindly_56 : decode cX7_kindly 56 = .ok (.iload 4, 2) := dk_21 4 (dk_at dksX7_kindly_2 8 rfl rfl)
theorem dX7_kindly_58 : decode cX7_kindly 58 = .ok (.aload_n 0, 1) := dk_42 (dk_at dksX7_kindly_2 10 rfl rfl)
theorem dX7_kindly_59 : decode cX7_kindly 59 = .ok (.sipush 164, 3) := dk_17 0 164 (dk_at dksX7_kindly_2 11 rfl rfl)
theorem dX7_kindly_62 : decode cX7_kindly 62 = .ok (.iload_n 1, 1) := dk_27 (dk_at dksX7_kindly_2 14 rfl rfl)
theorem dX7_kindly_63 : decode cX7_kindly 63 = .ok (.iload_n 2, 1) := dk_28 (dk_at dksX7_kindly_2 15 rfl rfl)
theorem dX7_kindly_64 : decode cX7_kindly 64 = .ok (.invokevirtual 168, 3) := dk_182 0 168 (dk_at dksX7_kindly_2 16 rfl rfl)
theorem dX7_kindly_67 : decode cX7_kindly 67 = .ok (.iload_n 3, 1) := dk_29 (dk_at dksX7_kindly_2 19 rfl rfl)
theorem dX7_kindly_68 : decode cX7_kindly 68 = .ok (.if_icmp .ne 10, 3) := dk_160 0 10 (dk_at dksX7_kindly_2 20 rfl rfl)
theorem dX7_kindly_71 : decode cX7_kindly 71 = .ok (.iconst 1, 1) := dk_4 (dk_at dksX7_kindly_2 23 rfl rfl)
theorem dX7_kindly_72 : decode cX7_kindly 72 = .ok (.iload 5, 2) := dk_21 5 (dk_at dksX7_kindly_3 0 rfl rfl)
theorem dX7_kindly_74 : decode cX7_kindly 74 = .ok (.ishl, 1) := dk_120 (dk_at dksX7_kindly_3 2 rfl rfl)
theorem dX7_kindly_75 : decode cX7_kindly 75 = .ok (.goto 4, 3) := dk_167 0 4 (dk_at dksX7_kindly_3 3 rfl rfl)
theorem dX7_kindly_78 : decode cX7_kindly 78 = .ok (.iconst 0, 1) := dk_3 (dk_at dksX7_kindly_3 6 rfl rfl)
theorem dX7_kindly_79 : decode cX7_kindly 79 = .ok (.ior, 1) := dk_128 (dk_at dksX7_kindly_3 7 rfl rfl)
theorem dX7_kindly_80 : decode cX7_kindly 80 = .ok (.istore 4, 2) := dk_54 4 (dk_at dksX7_kindly_3 8 rfl rfl)
theorem dX7_kindly_82 : decode cX7_kindly 82 = .ok (.iinc 5 1, 3) := dk_132 5 1 (dk_at dksX7_kindly_3 10 rfl rfl)
theorem dX7_kindly_85 : decode cX7_kindly 85 = .ok (.goto (-47), 3) := dk_167 255 209 (dk_at dksX7_kindly_3 13 rfl rfl)
theorem dX7_kindly_88 : decode cX7_kindly 88 = .ok (.iload 4, 2) := dk_21 4 (dk_at dksX7_kindly_3 16 rfl rfl)
theorem dX7_kindly_90 : decode cX7_kindly 90 = .ok (.ireturn, 1) := dk_172 (dk_at dksX7_kindly_3 18 rfl rfl)
abbrev cX7_copies : ByteArray := prog_11_method_55_code
def yX7_copies : MethodName := ⟨RX7, "copies", "(II)V"⟩
def dkwX7_copies_1 : List UInt8 := [132, 3, 1, 167, 255, 231, 177]
abbrev dktX7_copies_1 : List UInt8 := dkwX7_copies_1 ++ []
def dkwX7_copies_0 : List UInt8 := [3, 62, 29, 16, 41, 162, 0, 25, 42, 180, 0, 7, 28, 29, 96, 42, 180, 0, 7, 27, 29, 96, 46, 79]
abbrev dktX7_copies_0 : List UInt8 := dkwX7_copies_0 ++ dktX7_copies_1
theorem dksX7_copies_0 : cX7_copies.data.toList.drop 0 = dktX7_copies_0 := by decide +kernel
theorem dksX7_copies_1 : cX7_copies.data.toList.drop 24 = dktX7_copies_1 := dk_seg dksX7_copies_0 24 rfl rfl
theorem dX7_copies_0 : decode cX7_copies 0 = .ok (.iconst 0, 1) := dk_3 (dk_at dksX7_copies_0 0 rfl rfl)
theorem dX7_copies_1 : decode cX7_copies 1 = .ok (.istore_n 3, 1) := dk_62 (dk_at dksX7_copies_0 1 rfl rfl)
theorem dX7_copies_2 : decode cX7_copies 2 = .ok (.iload_n 3, 1) := dk_29 (dk_at dksX7_copies_0 2 rfl rfl)
theorem dX7_copies_3 : decode cX7_copies 3 = .ok (.bipush 41, 2) := dk_16 41 (dk_at dksX7_copies_0 3 rfl rfl)
theorem dX7_copies_5 : decode cX7_copies 5 = .ok (.if_icmp .ge 25, 3) := dk_162 0 25 (dk_at dksX7_copies_0 5 rfl rfl)
theorem dX7_copies_8 : decode cX7_copies 8 = .ok (.aload_n 0, 1) := dk_42 (dk_at dksX7_copies_0 8 rfl rfl)
theorem dX7_copies_9 : decode cX7_copies 9 = .ok (.getfield 7, 3) := dk_180 0 7 (dk_at dksX7_copies_0 9 rfl rfl)
theorem dX7_copies_12 : decode cX7_copies 12 = .ok (.iload_n 2, 1) := dk_28 (dk_at dksX7_copies_0 12 rfl rfl)
theorem dX7_copies_13 : decode cX7_copies 13 = .ok (.iload_n 3, 1) := dk_29 (dk_at dksX7_copies_0 13 rfl rfl)
theorem dX7_copies_14 : decode cX7_copies 14 = .ok (.iadd, 1) := dk_96 (dk_at dksX7_copies_0 14 rfl rfl)
theorem dX7_copies_15 : decode cX7_copies 15 = .ok (.aload_n 0, 1) := dk_42 (dk_at dksX7_copies_0 15 rfl rfl)
theorem dX7_copies_16 : decode cX7_copies 16 = .ok (.getfield 7, 3) := dk_180 0 7 (dk_at dksX7_copies_0 16 rfl rfl)
theorem dX7_copies_19 : decode cX7_copies 19 = .ok (.iload_n 1, 1) := dk_27 (dk_at dksX7_copies_0 19 rfl rfl)
theorem dX7_copies_20 : decode cX7_copies 20 = .ok (.iload_n 3, 1) := dk_29 (dk_at dksX7_copies_0 20 rfl rfl)
theorem dX7_copies_21 : decode cX7_copies 21 = .ok (.iadd, 1) := dk_96 (dk_at dksX7_copies_0 21 rfl rfl)
theorem dX7_copies_22 : decode cX7_copies 22 = .ok (.iaload, 1) := dk_46 (dk_at dksX7_copies_0 22 rfl rfl)
theorem dX7_copies_23 : decode cX7_copies 23 = .ok (.iastore, 1) := dk_79 (dk_at dksX7_copies_0 23 rfl rfl)
theorem dX7_copies_24 : decode cX7_copies 24 = .ok (.iinc 3 1, 3) := dk_132 3 1 (dk_at dksX7_copies_1 0 rfl rfl)
theorem dX7_copies_27 : decode cX7_copies 27 = .ok (.goto (-25), 3) := dk_167 255 231 (dk_at dksX7_copies_1 3 rfl rfl)
theorem dX7_copies_30 : decode cX7_copies 30 = .ok (.return_, 1) := dk_177 (dk_at dksX7_copies_1 6 rfl rfl)
abbrev cX7_place : ByteArray := prog_11_method_57_code
def yX7_place : MethodName := ⟨RX7, "place", "(II)I"⟩
def dkwX7_place_6 : List UInt8 := [167, 0, 4, 29, 172]
abbrev dktX7_place_6 : List UInt8 := dkwX7_place_6 ++ []
def dkwX7_place_5 : List UInt8 := [164, 0, 8, 21, 6, 167, 0, 4, 29, 62, 132, 5, 1, 167, 255, 169, 28, 154, 0, 8, 21, 4]
abbrev dktX7_place_5 : List UInt8 := dkwX7_place_5 ++ dktX7_place_6
def dkwX7_place_4 : List UInt8 := [184, 0, 221, 54, 6, 21, 6, 29, 164, 0, 8, 21, 5, 167, 0, 5, 21, 4, 54, 4, 21, 6, 29]
abbrev dktX7_place_4 : List UInt8 := dkwX7_place_4 ++ dktX7_place_5
def dkwX7_place_3 : List UInt8 := [17, 0, 164, 182, 0, 218, 42, 17, 0, 164, 21, 5, 27, 182, 0, 202, 42, 17, 0, 164, 27, 182, 0, 172]
abbrev dktX7_place_3 : List UInt8 := dkwX7_place_3 ++ dktX7_place_4
def dkwX7_place_2 : List UInt8 := [162, 0, 86, 21, 5, 184, 0, 186, 153, 0, 72, 42, 3, 21, 5, 182, 0, 189, 153, 0, 62, 42, 3]
abbrev dktX7_place_2 : List UInt8 := dkwX7_place_2 ++ dktX7_place_3
def dkwX7_place_1 : List UInt8 := [16, 38, 46, 16, 7, 160, 0, 6, 16, 253, 172, 2, 62, 3, 54, 4, 3, 54, 5, 21, 5, 16, 98]
abbrev dktX7_place_1 : List UInt8 := dkwX7_place_1 ++ dktX7_place_2
def dkwX7_place_0 : List UInt8 := [27, 184, 0, 197, 153, 0, 13, 28, 133, 9, 10, 184, 0, 49, 154, 0, 5, 2, 172, 42, 180, 0, 7]
abbrev dktX7_place_0 : List UInt8 := dkwX7_place_0 ++ dktX7_place_1
theorem dksX7_place_0 : cX7_place.data.toList.drop 0 = dktX7_place_0 := by decide +kernel
theorem dksX7_place_1 : cX7_place.data.toList.drop 23 = dktX7_place_1 := dk_seg dksX7_place_0 23 rfl rfl
theorem dksX7_place_2 : cX7_place.data.toList.drop 46 = dktX7_place_2 := dk_seg dksX7_place_1 23 rfl rfl
theorem dksX7_place_3 : cX7_place.data.toList.drop 69 = dktX7_place_3 := dk_seg dksX7_place_2 23 rfl rfl
theorem dksX7_place_4 : cX7_place.data.toList.drop 93 = dktX7_place_4 := dk_seg dksX7_place_3 24 rfl rfl
theorem dksX7_place_5 : cX7_place.data.toList.drop 116 = dktX7_place_5 := dk_seg dksX7_place_4 23 rfl rfl
theorem dksX7_place_6 : cX7_place.data.toList.drop 138 = dktX7_place_6 := dk_seg dksX7_place_5 22 rfl rfl
theorem dX7_place_0 : decode cX7_place 0 = .ok (.iload_n 1, 1) := dk_27 (dk_at dksX7_place_0 0 rfl rfl)
theorem dX7_place_1 : decode cX7_place 1 = .ok (.invokestatic 197, 3) := dk_184 0 197 (dk_at dksX7_place_0 1 rfl rfl)
theorem dX7_place_4 : decode cX7_place 4 = .ok (.ifCond .eq 13, 3) := dk_153 0 13 (dk_at dksX7_place_0 4 rfl rfl)
theorem dX7_place_7 : decode cX7_place 7 = .ok (.iload_n 2, 1) := dk_28 (dk_at dksX7_place_0 7 rfl rfl)
theorem dX7_place_8 : decode cX7_place 8 = .ok (.i2l, 1) := dk_133 (dk_at dksX7_place_0 8 rfl rfl)
theorem dX7_place_9 : decode cX7_place 9 = .ok (.lconst 0, 1) := dk_9 (dk_at dksX7_place_0 9 rfl rfl)
theorem dX7_place_10 : decode cX7_place 10 = .ok (.lconst 1, 1) := dk_10 (dk_at dksX7_place_0 10 rfl rfl)
theorem dX7_place_11 : decode cX7_place 11 = .ok (.invokestatic 49, 3) := dk_184 0 49 (dk_at dksX7_place_0 11 rfl rfl)
theorem dX7_place_14 : decode cX7_place 14 = .ok (.ifCond .ne 5, 3) := dk_154 0 5 (dk_at dksX7_place_0 14 rfl rfl)
theorem dX7_place_17 : decode cX7_place 17 = .ok (.iconst (-1), 1) := dk_2 (dk_at dksX7_place_0 17 rfl rfl)
theorem dX7_place_18 : decode cX7_place 18 = .ok (.ireturn, 1) := dk_172 (dk_at dksX7_place_0 18 rfl rfl)
theorem dX7_place_19 : decode cX7_place 19 = .ok (.aload_n 0, 1) := dk_42 (dk_at dksX7_place_0 19 rfl rfl)
theorem dX7_place_20 : decode cX7_place 20 = .ok (.getfield 7, 3) := dk_180 0 7 (dk_at dksX7_place_0 20 rfl rfl)
theorem dX7_place_23 : decode cX7_place 23 = .ok (.bipush 38, 2) := dk_16 38 (dk_at dksX7_place_1 0 rfl rfl)
theorem dX7_place_25 : decode cX7_place 25 = .ok (.iaload, 1) := dk_46 (dk_at dksX7_place_1 2 rfl rfl)
theorem dX7_place_26 : decode cX7_place 26 = .ok (.bipush 7, 2) := dk_16 7 (dk_at dksX7_place_1 3 rfl rfl)
theorem dX7_place_28 : decode cX7_place 28 = .ok (.if_icmp .ne 6, 3) := dk_160 0 6 (dk_at dksX7_place_1 5 rfl rfl)
theorem dX7_place_31 : decode cX7_place 31 = .ok (.bipush (-3), 2) := dk_16 253 (dk_at dksX7_place_1 8 rfl rfl)
theorem dX7_place_33 : decode cX7_place 33 = .ok (.ireturn, 1) := dk_172 (dk_at dksX7_place_1 10 rfl rfl)
theorem dX7_place_34 : decode cX7_place 34 = .ok (.iconst (-1), 1) := dk_2 (dk_at dksX7_place_1 11 rfl rfl)
theorem dX7_place_35 : decode cX7_place 35 = .ok (.istore_n 3, 1) := dk_62 (dk_at dksX7_place_1 12 rfl rfl)
theorem dX7_place_36 : decode cX7_place 36 = .ok (.iconst 0, 1) := dk_3 (dk_at dksX7_place_1 13 rfl rfl)
theorem dX7_place_37 : decode cX7_place 37 = .ok (.istore 4, 2) := dk_54 4 (dk_at dksX7_place_1 14 rfl rfl)
theorem dX7_place_39 : decode cX7_place 39 = .ok (.iconst 0, 1) := dk_3 (dk_at dksX7_place_1 16 rfl rfl)
theorem dX7_place_40 : decode cX7_place 40 = .ok (.istore 5, 2) := dk_54 5 (dk_at dksX7_place_1 17 rfl rfl)
theorem dX7_place_42 : decode cX7_place 42 = .ok (.iload 5, 2) := dk_21 5 (dk_at dksX7_place_1 19 rfl rfl)
theorem dX7_place_44 : decode cX7_place 44 = .ok (.bipush 98, 2) := dk_16 98 (dk_at dksX7_place_1 21 rfl rfl)
theorem dX7_place_46 : decode cX7_place 46 = .ok (.if_icmp .ge 86, 3) := dk_162 0 86 (dk_at dksX7_place_2 0 rfl rfl)
theorem dX7_place_49 : decode cX7_place 49 = .ok (.iload 5, 2) := dk_21 5 (dk_at dksX7_place_2 3 rfl rfl)
theorem dX7_place_51 : decode cX7_place 51 = .ok (.invokestatic 186, 3) := dk_184 0 186 (dk_at dksX7_place_2 5 rfl rfl)
theorem dX7_place_54 : decode cX7_place 54 = .ok (.ifCond .eq 72, 3) := dk_153 0 72 (dk_at dksX7_place_2 8 rfl rfl)
theorem dX7_place_57 : decode cX7_place 57 = .ok (.aload_n 0, 1) := dk_42 (dk_at dksX7_place_2 11 rfl rfl)
theorem dX7_place_58 : decode cX7_place 58 = .ok (.iconst 0, 1) := dk_3 (dk_at dksX7_place_2 12 rfl rfl)
theorem dX7_place_59 : decode cX7_place 59 = .ok (.iload 5, 2) := dk_21 5 (dk_at dksX7_place_2 13 rfl rfl)
theorem dX7_place_61 : decode cX7_place 61 = .ok (.invokevirtual 189, 3) := dk_182 0 189 (dk_at dksX7_place_2 15 rfl rfl)
theorem dX7_place_64 : decode cX7_place 64 = .ok (.ifCond .eq 62, 3) := dk_153 0 62 (dk_at dksX7_place_2 18 rfl rfl)
theorem dX7_place_67 : decode cX7_place 67 = .ok (.aload_n 0, 1) := dk_42 (dk_at dksX7_place_2 21 rfl rfl)
theorem dX7_place_68 : decode cX7_place 68 = .ok (.iconst 0, 1) := dk_3 (dk_at dksX7_place_2 22 rfl rfl)
theorem dX7_place_69 : decode cX7_place 69 = .ok (.sipush 164, 3) := dk_17 0 164 (dk_at dksX7_place_3 0 rfl rfl)
theorem dX7_place_72 : decode cX7_place 72 = .ok (.invokevirtual 218, 3) := dk_182 0 218 (dk_at dksX7_place_3 3 rfl rfl)
theorem dX7_place_75 : decode cX7_place 75 = .ok (.aload_n 0, 1) := dk_42 (dk_at dksX7_place_3 6 rfl rfl)
theorem dX7_place_76 : decode cX7_place 76 = .ok (.sipush 164, 3) := dk_17 0 164 (dk_at dksX7_place_3 7 rfl rfl)
theorem dX7_place_79 : decode cX7_place 79 = .ok (.iload 5, 2) := dk_21 5 (dk_at dksX7_place_3 10 rfl rfl)
theorem dX7_place_81 : decode cX7_place 81 = .ok (.iload_n 1, 1) := dk_27 (dk_at dksX7_place_3 12 rfl rfl)
theorem dX7_place_82 : decode cX7_place 82 = .ok (.invokevirtual 202, 3) := dk_182 0 202 (dk_at dksX7_place_3 13 rfl rfl)
theorem dX7_place_85 : decode cX7_place 85 = .ok (.aload_n 0, 1) := dk_42 (dk_at dksX7_place_3 16 rfl rfl)
theorem dX7_place_86 : decode cX7_place 86 = .ok (.sipush 164, 3) := dk_17 0 164 (dk_at dksX7_place_3 17 rfl rfl)
theorem dX7_place_89 : decode cX7_place 89 = .ok (.iload_n 1, 1) := dk_27 (dk_at dksX7_place_3 20 rfl rfl)
theorem dX7_place_90 : decode cX7_place 90 = .ok (.invokevirtual 172, 3) := dk_182 0 172 (dk_at dksX7_place_3 21 rfl rfl)
theorem dX7_place_93 : decode cX7_place 93 = .ok (.invokestatic 221, 3) := dk_184 0 221 (dk_at dksX7_place_4 0 rfl rfl)
theorem dX7_place_96 : decode cX7_place 96 = .ok (.istore 6, 2) := dk_54 6 (dk_at dksX7_place_4 3 rfl rfl)
theorem dX7_place_98 : decode cX7_place 98 = .ok (.iload 6, 2) := dk_21 6 (dk_at dksX7_place_4 5 rfl rfl)
theorem dX7_place_100 : decode cX7_place 100 = .ok (.iload_n 3, 1) := dk_29 (dk_at dksX7_place_4 7 rfl rfl)
theorem dX7_place_101 : decode cX7_place 101 = .ok (.if_icmp .le 8, 3) := dk_164 0 8 (dk_at dksX7_place_4 8 rfl rfl)
theorem dX7_place_104 : decode cX7_place 104 = .ok (.iload 5, 2) := dk_21 5 (dk_at dksX7_place_4 11 rfl rfl)
theorem dX7_place_106 : decode cX7_place 106 = .ok (.goto 5, 3) := dk_167 0 5 (dk_at dksX7_place_4 13 rfl rfl)
theorem dX7_place_109 : decode cX7_place 109 = .ok (.iload 4, 2) := dk_21 4 (dk_at dksX7_place_4 16 rfl rfl)
theorem dX7_place_111 : decode cX7_place 111 = .ok (.istore 4, 2) := dk_54 4 (dk_at dksX7_place_4 18 rfl rfl)
theorem dX7_place_113 : decode cX7_place 113 = .ok (.iload 6, 2) := dk_21 6 (dk_at dksX7_place_4 20 rfl rfl)
theorem dX7_place_115 : decode cX7_place 115 = .ok (.iload_n 3, 1) := dk_29 (dk_at dksX7_place_4 22 rfl rfl)
theorem dX7_place_116 : decode cX7_place 116 = .ok (.if_icmp .le 8, 3) := dk_164 0 8 (dk_at dksX7_place_5 0 rfl rfl)
theorem dX7_place_119 : decode cX7_place 119 = .ok (.iload 6, 2) := dk_21 6 (dk_at dksX7_place_5 3 rfl rfl)
theorem dX7_place_121 : decode cX7_place 121 = .ok (.goto 4, 3) := dk_167 0 4 (dk_at dksX7_place_5 5 rfl rfl)
theorem dX7_place_124 : decode cX7_place 124 = .ok (.iload_n 3, 1) := dk_29 (dk_at dksX7_place_5 8 rfl rfl)
theorem dX7_place_125 : decode cX7_place 125 = .ok (.istore_n 3, 1) := dk_62 (dk_at dksX7_place_5 9 rfl rfl)
theorem dX7_place_126 : decode cX7_place 126 = .ok (.iinc 5 1, 3) := dk_132 5 1 (dk_at dksX7_place_5 10 rfl rfl)
theorem dX7_place_129 : decode cX7_place 129 = .ok (.goto (-87), 3) := dk_167 255 169 (dk_at dksX7_place_5 13 rfl rfl)
theorem dX7_place_132 : decode cX7_place 132 = .ok (.iload_n 2, 1) := dk_28 (dk_at dksX7_place_5 16 rfl rfl)
theorem dX7_place_133 : decode cX7_place 133 = .ok (.ifCond .ne 8, 3) := dk_154 0 8 (dk_at dksX7_place_5 17 rfl rfl)
theorem dX7_place_136 : decode cX7_place 136 = .ok (.iload 4, 2) := dk_21 4 (dk_at dksX7_place_5 20 rfl rfl)
theorem dX7_place_138 : decode cX7_place 138 = .ok (.goto 4, 3) := dk_167 0 4 (dk_at dksX7_place_6 0 rfl rfl)
theorem dX7_place_141 : decode cX7_place 141 = .ok (.iload_n 3, 1) := dk_29 (dk_at dksX7_place_6 3 rfl rfl)
theorem dX7_place_142 : decode cX7_place 142 = .ok (.ireturn, 1) := dk_172 (dk_at dksX7_place_6 4 rfl rfl)
abbrev cX7_bitsOf : ByteArray := prog_11_method_32_code
def yX7_bitsOf : MethodName := ⟨RX7, "bitsOf", "(I)I"⟩
def dkwX7_bitsOf_0 : List UInt8 := [3, 60, 26, 61, 28, 158, 0, 16, 27, 28, 4, 126, 96, 60, 28, 4, 122, 61, 167, 255, 242, 27, 172]
abbrev dktX7_bitsOf_0 : List UInt8 := dkwX7_bitsOf_0 ++ []
theorem dksX7_bitsOf_0 : cX7_bitsOf.data.toList.drop 0 = dktX7_bitsOf_0 := by decide +kernel
theorem dX7_bitsOf_0 : decode cX7_bitsOf 0 = .ok (.iconst 0, 1) := dk_3 (dk_at dksX7_bitsOf_0 0 rfl rfl)
theorem dX7_bitsOf_1 : decode cX7_bitsOf 1 = .ok (.istore_n 1, 1) := dk_60 (dk_at dksX7_bitsOf_0 1 rfl rfl)
theorem dX7_bitsOf_2 : decode cX7_bitsOf 2 = .ok (.iload_n 0, 1) := dk_26 (dk_at dksX7_bitsOf_0 2 rfl rfl)
theorem dX7_bitsOf_3 : decode cX7_bitsOf 3 = .ok (.istore_n 2, 1) := dk_61 (dk_at dksX7_bitsOf_0 3 rfl rfl)
theorem dX7_bitsOf_4 : decode cX7_bitsOf 4 = .ok (.iload_n 2, 1) := dk_28 (dk_at dksX7_bitsOf_0 4 rfl rfl)
theorem dX7_bitsOf_5 : decode cX7_bitsOf 5 = .ok (.ifCond .le 16, 3) := dk_158 0 16 (dk_at dksX7_bitsOf_0 5 rfl rfl)
theorem dX7_bitsOf_8 : decode cX7_bitsOf 8 = .ok (.iload_n 1, 1) := dk_27 (dk_at dksX7_bitsOf_0 8 rfl rfl)
theorem dX7_bitsOf_9 : decode cX7_bitsOf 9 = .ok (.iload_n 2, 1) := dk_28 (dk_at dksX7_bitsOf_0 9 rfl rfl)
theorem dX7_bitsOf_10 : decode cX7_bitsOf 10 = .ok (.iconst 1, 1) := dk_4 (dk_at dksX7_bitsOf_0 10 rfl rfl)
theorem dX7_bitsOf_11 : decode cX7_bitsOf 11 = .ok (.iand, 1) := dk_126 (dk_at dksX7_bitsOf_0 11 rfl rfl)
theorem dX7_bitsOf_12 : decode cX7_bitsOf 12 = .ok (.iadd, 1) := dk_96 (dk_at dksX7_bitsOf_0 12 rfl rfl)
theorem dX7_bitsOf_13 : decode cX7_bitsOf 13 = .ok (.istore_n 1, 1) := dk_60 (dk_at dksX7_bitsOf_0 13 rfl rfl)
theorem dX7_bitsOf_14 : decode cX7_bitsOf 14 = .ok (.iload_n 2, 1) := dk_28 (dk_at dksX7_bitsOf_0 14 rfl rfl)
theorem dX7_bitsOf_15 : decode cX7_bitsOf 15 = .ok (.iconst 1, 1) := dk_4 (dk_at dksX7_bitsOf_0 15 rfl rfl)
theorem dX7_bitsOf_16 : decode cX7_bitsOf 16 = .ok (.ishr, 1) := dk_122 (dk_at dksX7_bitsOf_0 16 rfl rfl)
theorem dX7_bitsOf_17 : decode cX7_bitsOf 17 = .ok (.istore_n 2, 1) := dk_61 (dk_at dksX7_bitsOf_0 17 rfl rfl)
theorem dX7_bitsOf_18 : decode cX7_bitsOf 18 = .ok (.goto (-14), 3) := dk_167 255 242 (dk_at dksX7_bitsOf_0 18 rfl rfl)
theorem dX7_bitsOf_21 : decode cX7_bitsOf 21 = .ok (.iload_n 1, 1) := dk_27 (dk_at dksX7_bitsOf_0 21 rfl rfl)
theorem dX7_bitsOf_22 : decode cX7_bitsOf 22 = .ok (.ireturn, 1) := dk_172 (dk_at dksX7_bitsOf_0 22 rfl rfl)
abbrev cX7_move : ByteArray := prog_11_method_58_code
def yX7_move : MethodName := ⟨RX7, "move", "(II)I"⟩
def dkwX7_move_6 : List UInt8 := [154, 0, 8, 21, 4, 167, 0, 4, 29, 172]
abbrev dktX7_move_6 : List UInt8 := dkwX7_move_6 ++ []
def dkwX7_move_5 : List UInt8 := [21, 4, 54, 4, 21, 6, 29, 164, 0, 8, 21, 6, 167, 0, 4, 29, 62, 132, 5, 1, 167, 255, 156, 28]
abbrev dktX7_move_5 : List UInt8 := dkwX7_move_5 ++ dktX7_move_6
def dkwX7_move_4 : List UInt8 := [16, 7, 27, 96, 46, 182, 0, 172, 184, 0, 221, 54, 6, 21, 6, 29, 164, 0, 8, 21, 5, 167, 0, 5]
abbrev dktX7_move_4 : List UInt8 := dkwX7_move_4 ++ dktX7_move_5
def dkwX7_move_3 : List UInt8 := [160, 0, 64, 42, 180, 0, 7, 17, 0, 164, 27, 96, 21, 5, 79, 42, 17, 0, 164, 42, 180, 0, 7]
abbrev dktX7_move_3 : List UInt8 := dkwX7_move_3 ++ dktX7_move_4
def dkwX7_move_2 : List UInt8 := [184, 0, 186, 153, 0, 85, 42, 3, 21, 5, 182, 0, 189, 154, 0, 14, 42, 180, 0, 7, 27, 46, 21, 5]
abbrev dktX7_move_2 : List UInt8 := dkwX7_move_2 ++ dktX7_move_3
def dkwX7_move_1 : List UInt8 := [54, 4, 42, 3, 17, 0, 164, 182, 0, 218, 3, 54, 5, 21, 5, 16, 98, 162, 0, 99, 21, 5]
abbrev dktX7_move_1 : List UInt8 := dkwX7_move_1 ++ dktX7_move_2
def dkwX7_move_0 : List UInt8 := [42, 27, 182, 0, 175, 153, 0, 13, 28, 133, 9, 10, 184, 0, 49, 154, 0, 5, 2, 172, 2, 62, 3]
abbrev dktX7_move_0 : List UInt8 := dkwX7_move_0 ++ dktX7_move_1
theorem dksX7_move_0 : cX7_move.data.toList.drop 0 = dktX7_move_0 := by decide +kernel
theorem dksX7_move_1 : cX7_move.data.toList.drop 23 = dktX7_move_1 := dk_seg dksX7_move_0 23 rfl rfl
theorem dksX7_move_2 : cX7_move.data.toList.drop 45 = dktX7_move_2 := dk_seg dksX7_move_1 22 rfl rfl
theorem dksX7_move_3 : cX7_move.data.toList.drop 69 = dktX7_move_3 := dk_seg dksX7_move_2 24 rfl rfl
theorem dksX7_move_4 : cX7_move.data.toList.drop 92 = dktX7_move_4 := dk_seg dksX7_move_3 23 rfl rfl
theorem dksX7_move_5 : cX7_move.data.toList.drop 116 = dktX7_move_5 := dk_seg dksX7_move_4 24 rfl rfl
theorem dksX7_move_6 : cX7_move.data.toList.drop 140 = dktX7_move_6 := dk_seg dksX7_move_5 24 rfl rfl
theorem dX7_move_0 : decode cX7_move 0 = .ok (.aload_n 0, 1) := dk_42 (dk_at dksX7_move_0 0 rfl rfl)
theorem dX7_move_1 : decode cX7_move 1 = .ok (.iload_n 1, 1) := dk_27 (dk_at dksX7_move_0 1 rfl rfl)
theorem dX7_move_2 : decode cX7_move 2 = .ok (.invokevirtual 175, 3) := dk_182 0 175 (dk_at dksX7_move_0 2 rfl rfl)
theorem dX7_move_5 : decode cX7_move 5 = .ok (.ifCond .eq 13, 3) := dk_153 0 13 (dk_at dksX7_move_0 5 rfl rfl)
theorem dX7_move_8 : decode cX7_move 8 = .ok (.iload_n 2, 1) := dk_28 (dk_at dksX7_move_0 8 rfl rfl)
theorem dX7_move_9 : decode cX7_move 9 = .ok (.i2l, 1) := dk_133 (dk_at dksX7_move_0 9 rfl rfl)
theorem dX7_move_10 : decode cX7_move 10 = .ok (.lconst 0, 1) := dk_9 (dk_at dksX7_move_0 10 rfl rfl)
theorem dX7_move_11 : decode cX7_move 11 = .ok (.lconst 1, 1) := dk_10 (dk_at dksX7_move_0 11 rfl rfl)
theorem dX7_move_12 : decode cX7_move 12 = .ok (.invokestatic 49, 3) := dk_184 0 49 (dk_at dksX7_move_0 12 rfl rfl)
theorem dX7_move_15 : decode cX7_move 15 = .ok (.ifCond .ne 5, 3) := dk_154 0 5 (dk_at dksX7_move_0 15 rfl rfl)
theorem dX7_move_18 : decode cX7_move 18 = .ok (.iconst (-1), 1) := dk_2 (dk_at dksX7_move_0 18 rfl rfl)
theorem dX7_move_19 : decode cX7_move 19 = .ok (.ireturn, 1) := dk_172 (dk_at dksX7_move_0 19 rfl rfl)
theorem dX7_move_20 : decode cX7_move 20 = .ok (.iconst (-1), 1) := dk_2 (dk_at dksX7_move_0 20 rfl rfl)
theorem dX7_move_21 : decode cX7_move 21 = .ok (.istore_n 3, 1) := dk_62 (dk_at dksX7_move_0 21 rfl rfl)
theorem dX7_move_22 : decode cX7_move 22 = .ok (.iconst 0, 1) := dk_3 (dk_at dksX7_move_0 22 rfl rfl)
theorem dX7_move_23 : decode cX7_move 23 = .ok (.istore 4, 2) := dk_54 4 (dk_at dksX7_move_1 0 rfl rfl)
theorem dX7_move_25 : decode cX7_move 25 = .ok (.aload_n 0, 1) := dk_42 (dk_at dksX7_move_1 2 rfl rfl)
theorem dX7_move_26 : decode cX7_move 26 = .ok (.iconst 0, 1) := dk_3 (dk_at dksX7_move_1 3 rfl rfl)
theorem dX7_move_27 : decode cX7_move 27 = .ok (.sipush 164, 3) := dk_17 0 164 (dk_at dksX7_move_1 4 rfl rfl)
theorem dX7_move_30 : decode cX7_move 30 = .ok (.invokevirtual 218, 3) := dk_182 0 218 (dk_at dksX7_move_1 7 rfl rfl)
theorem dX7_move_33 : decode cX7_move 33 = .ok (.iconst 0, 1) := dk_3 (dk_at dksX7_move_1 10 rfl rfl)
theorem dX7_move_34 : decode cX7_move 34 = .ok (.istore 5, 2) := dk_54 5 (dk_at dksX7_move_1 11 rfl rfl)
theorem dX7_move_36 : decode cX7_move 36 = .ok (.iload 5, 2) := dk_21 5 (dk_at dksX7_move_1 13 rfl rfl)
theorem dX7_move_38 : decode cX7_move 38 = .ok (.bipush 98, 2) := dk_16 98 (dk_at dksX7_move_1 15 rfl rfl)
theorem dX7_move_40 : decode cX7_move 40 = .ok (.if_icmp .ge 99, 3) := dk_162 0 99 (dk_at dksX7_move_1 17 rfl rfl)
theorem dX7_move_43 : decode cX7_move 43 = .ok (.iload 5, 2) := dk_21 5 (dk_at dksX7_move_1 20 rfl rfl)
theorem dX7_move_45 : decode cX7_move 45 = .ok (.invokestatic 186, 3) := dk_184 0 186 (dk_at dksX7_move_2 0 rfl rfl)
theorem dX7_move_48 : decode cX7_move 48 = .ok (.ifCond .eq 85, 3) := dk_153 0 85 (dk_at dksX7_move_2 3 rfl rfl)
theorem dX7_move_51 : decode cX7_move 51 = .ok (.aload_n 0, 1) := dk_42 (dk_at dksX7_move_2 6 rfl rfl)
theorem dX7_move_52 : decode cX7_move 52 = .ok (.iconst 0, 1) := dk_3 (dk_at dksX7_move_2 7 rfl rfl)
theorem dX7_move_53 : decode cX7_move 53 = .ok (.iload 5, 2) := dk_21 5 (dk_at dksX7_move_2 8 rfl rfl)
theorem dX7_move_55 : decode cX7_move 55 = .ok (.invokevirtual 189, 3) := dk_182 0 189 (dk_at dksX7_move_2 10 rfl rfl)
theorem dX7_move_58 : decode cX7_move 58 = .ok (.ifCond .ne 14, 3) := dk_154 0 14 (dk_at dksX7_move_2 13 rfl rfl)
theorem dX7_move_61 : decode cX7_move 61 = .ok (.aload_n 0, 1) := dk_42 (dk_at dksX7_move_2 16 rfl rfl)
theorem dX7_move_62 : decode cX7_move 62 = .ok (.getfield 7, 3) := dk_180 0 7 (dk_at dksX7_move_2 17 rfl rfl)
theorem dX7_move_65 : decode cX7_move 65 = .ok (.iload_n 1, 1) := dk_27 (dk_at dksX7_move_2 20 rfl rfl)
theorem dX7_move_66 : decode cX7_move 66 = .ok (.iaload, 1) := dk_46 (dk_at dksX7_move_2 21 rfl rfl)
theorem dX7_move_67 : decode cX7_move 67 = .ok (.iload 5, 2) := dk_21 5 (dk_at dksX7_move_2 22 rfl rfl)
theorem dX7_move_69 : decode cX7_move 69 = .ok (.if_icmp .ne 64, 3) := dk_160 0 64 (dk_at dksX7_move_3 0 rfl rfl)
theorem dX7_move_72 : decode cX7_move 72 = .ok (.aload_n 0, 1) := dk_42 (dk_at dksX7_move_3 3 rfl rfl)
theorem dX7_move_73 : decode cX7_move 73 = .ok (.getfield 7, 3) := dk_180 0 7 (dk_at dksX7_move_3 4 rfl rfl)
theorem dX7_move_76 : decode cX7_move 76 = .ok (.sipush 164, 3) := dk_17 0 164 (dk_at dksX7_move_3 7 rfl rfl)
theorem dX7_move_79 : decode cX7_move 79 = .ok (.iload_n 1, 1) := dk_27 (dk_at dksX7_move_3 10 rfl rfl)
theorem dX7_move_80 : decode cX7_move 80 = .ok (.iadd, 1) := dk_96 (dk_at dksX7_move_3 11 rfl rfl)
theorem dX7_move_81 : decode cX7_move 81 = .ok (.iload 5, 2) := dk_21 5 (dk_at dksX7_move_3 12 rfl rfl)
theorem dX7_move_83 : decode cX7_move 83 = .ok (.iastore, 1) := dk_79 (dk_at dksX7_move_3 14 rfl rfl)
theorem dX7_move_84 : decode cX7_move 84 = .ok (.aload_n 0, 1) := dk_42 (dk_at dksX7_move_3 15 rfl rfl)
theorem dX7_move_85 : decode cX7_move 85 = .ok (.sipush 164, 3) := dk_17 0 164 (dk_at dksX7_move_3 16 rfl rfl)
theorem dX7_move_88 : decode cX7_move 88 = .ok (.aload_n 0, 1) := dk_42 (dk_at dksX7_move_3 19 rfl rfl)
theorem dX7_move_89 : decode cX7_move 89 = .ok (.getfield 7, 3) := dk_180 0 7 (dk_at dksX7_move_3 20 rfl rfl)
theorem dX7_move_92 : decode cX7_move 92 = .ok (.bipush 7, 2) := dk_16 7 (dk_at dksX7_move_4 0 rfl rfl)
theorem dX7_move_94 : decode cX7_move 94 = .ok (.iload_n 1, 1) := dk_27 (dk_at dksX7_move_4 2 rfl rfl)
theorem dX7_move_95 : decode cX7_move 95 = .ok (.iadd, 1) := dk_96 (dk_at dksX7_move_4 3 rfl rfl)
theorem dX7_move_96 : decode cX7_move 96 = .ok (.iaload, 1) := dk_46 (dk_at dksX7_move_4 4 rfl rfl)
theorem dX7_move_97 : decode cX7_move 97 = .ok (.invokevirtual 172, 3) := dk_182 0 172 (dk_at dksX7_move_4 5 rfl rfl)
theorem dX7_move_100 : decode cX7_move 100 = .ok (.invokestatic 221, 3) := dk_184 0 221 (dk_at dksX7_move_4 8 rfl rfl)
theorem dX7_move_103 : decode cX7_move 103 = .ok (.istore 6, 2) := dk_54 6 (dk_at dksX7_move_4 11 rfl rfl)
theorem dX7_move_105 : decode cX7_move 105 = .ok (.iload 6, 2) := dk_21 6 (dk_at dksX7_move_4 13 rfl rfl)
theorem dX7_move_107 : decode cX7_move 107 = .ok (.iload_n 3, 1) := dk_29 (dk_at dksX7_move_4 15 rfl rfl)
theorem dX7_move_108 : decode cX7_move 108 = .ok (.if_icmp .le 8, 3) := dk_164 0 8 (dk_at dksX7_move_4 16 rfl rfl)
theorem dX7_move_111 : decode cX7_move 111 = .ok (.iload 5, 2) := dk_21 5 (dk_at dksX7_move_4 19 rfl rfl)
theorem dX7_move_113 : decode cX7_move 113 = .ok (.goto 5, 3) := dk_167 0 5 (dk_at dksX7_move_4 21 rfl rfl)
theorem dX7_move_116 : decode cX7_move 116 = .ok (.iload 4, 2) := dk_21 4 (dk_at dksX7_move_5 0 rfl rfl)
theorem dX7_move_118 : decode cX7_move 118 = .ok (.istore 4, 2) := dk_54 4 (dk_at dksX7_move_5 2 rfl rfl)
theorem dX7_move_120 : decode cX7_move 120 = .ok (.iload 6, 2) := dk_21 6 (dk_at dksX7_move_5 4 rfl rfl)
theorem dX7_move_122 : decode cX7_move 122 = .ok (.iload_n 3, 1) := dk_29 (dk_at dksX7_move_5 6 rfl rfl)
theorem dX7_move_123 : decode cX7_move 123 = .ok (.if_icmp .le 8, 3) := dk_164 0 8 (dk_at dksX7_move_5 7 rfl rfl)
theorem dX7_move_126 : decode cX7_move 126 = .ok (.iload 6, 2) := dk_21 6 (dk_at dksX7_move_5 10 rfl rfl)
theorem dX7_move_128 : decode cX7_move 128 = .ok (.goto 4, 3) := dk_167 0 4 (dk_at dksX7_move_5 12 rfl rfl)
theorem dX7_move_131 : decode cX7_move 131 = .ok (.iload_n 3, 1) := dk_29 (dk_at dksX7_move_5 15 rfl rfl)
theorem dX7_move_132 : decode cX7_move 132 = .ok (.istore_n 3, 1) := dk_62 (dk_at dksX7_move_5 16 rfl rfl)
theorem dX7_move_133 : decode cX7_move 133 = .ok (.iinc 5 1, 3) := dk_132 5 1 (dk_at dksX7_move_5 17 rfl rfl)
theorem dX7_move_136 : decode cX7_move 136 = .ok (.goto (-100), 3) := dk_167 255 156 (dk_at dksX7_move_5 20 rfl rfl)
theorem dX7_move_139 : decode cX7_move 139 = .ok (.iload_n 2, 1) := dk_28 (dk_at dksX7_move_5 23 rfl rfl)
theorem dX7_move_140 : decode cX7_move 140 = .ok (.ifCond .ne 8, 3) := dk_154 0 8 (dk_at dksX7_move_6 0 rfl rfl)
theorem dX7_move_143 : decode cX7_move 143 = .ok (.iload 4, 2) := dk_21 4 (dk_at dksX7_move_6 3 rfl rfl)
theorem dX7_move_145 : decode cX7_move 145 = .ok (.goto 4, 3) := dk_167 0 4 (dk_at dksX7_move_6 5 rfl rfl)
theorem dX7_move_148 : decode cX7_move 148 = .ok (.iload_n 3, 1) := dk_29 (dk_at dksX7_move_6 8 rfl rfl)
theorem dX7_move_149 : decode cX7_move 149 = .ok (.ireturn, 1) := dk_172 (dk_at dksX7_move_6 9 rfl rfl)
abbrev cX7_bribe : ByteArray := prog_11_method_59_code
def yX7_bribe : MethodName := ⟨RX7, "bribe", "(II)I"⟩
def dkwX7_bribe_6 : List UInt8 := [167, 255, 158, 28, 154, 0, 8, 21, 4, 167, 0, 4, 29, 172]
abbrev dktX7_bribe_6 : List UInt8 := dkwX7_bribe_6 ++ []
def dkwX7_bribe_5 : List UInt8 := [167, 0, 5, 21, 4, 54, 4, 21, 6, 29, 162, 0, 8, 21, 6, 167, 0, 4, 29, 62, 132, 5, 1]
abbrev dktX7_bribe_5 : List UInt8 := dkwX7_bribe_5 ++ dktX7_bribe_6
def dkwX7_bribe_4 : List UInt8 := [42, 17, 0, 164, 27, 182, 0, 172, 2, 130, 126, 184, 0, 221, 54, 6, 21, 6, 29, 162, 0, 8, 21, 5]
abbrev dktX7_bribe_4 : List UInt8 := dkwX7_bribe_4 ++ dktX7_bribe_5
def dkwX7_bribe_3 : List UInt8 := [17, 0, 164, 182, 0, 218, 42, 17, 0, 164, 21, 5, 182, 0, 209, 42, 17, 0, 164, 16, 252, 182, 0, 172]
abbrev dktX7_bribe_3 : List UInt8 := dkwX7_bribe_3 ++ dktX7_bribe_4
def dkwX7_bribe_2 : List UInt8 := [162, 0, 97, 21, 5, 184, 0, 186, 153, 0, 83, 42, 3, 21, 5, 182, 0, 189, 153, 0, 73, 42, 3]
abbrev dktX7_bribe_2 : List UInt8 := dkwX7_bribe_2 ++ dktX7_bribe_3
def dkwX7_bribe_1 : List UInt8 := [16, 39, 46, 7, 160, 0, 6, 16, 253, 172, 16, 100, 62, 3, 54, 4, 3, 54, 5, 21, 5, 16, 98]
abbrev dktX7_bribe_1 : List UInt8 := dkwX7_bribe_1 ++ dktX7_bribe_2
def dkwX7_bribe_0 : List UInt8 := [27, 184, 0, 197, 153, 0, 13, 28, 133, 9, 10, 184, 0, 49, 154, 0, 5, 2, 172, 42, 180, 0, 7]
abbrev dktX7_bribe_0 : List UInt8 := dkwX7_bribe_0 ++ dktX7_bribe_1
theorem dksX7_bribe_0 : cX7_bribe.data.toList.drop 0 = dktX7_bribe_0 := by decide +kernel
theorem dksX7_bribe_1 : cX7_bribe.data.toList.drop 23 = dktX7_bribe_1 := dk_seg dksX7_bribe_0 23 rfl rfl
theorem dksX7_bribe_2 : cX7_bribe.data.toList.drop 46 = dktX7_bribe_2 := dk_seg dksX7_bribe_1 23 rfl rfl
theorem dksX7_bribe_3 : cX7_bribe.data.toList.drop 69 = dktX7_bribe_3 := dk_seg dksX7_bribe_2 23 rfl rfl
theorem dksX7_bribe_4 : cX7_bribe.data.toList.drop 93 = dktX7_bribe_4 := dk_seg dksX7_bribe_3 24 rfl rfl
theorem dksX7_bribe_5 : cX7_bribe.data.toList.drop 117 = dktX7_bribe_5 := dk_seg dksX7_bribe_4 24 rfl rfl
theorem dksX7_bribe_6 : cX7_bribe.data.toList.drop 140 = dktX7_bribe_6 := dk_seg dksX7_bribe_5 23 rfl rfl
theorem dX7_bribe_0 : decode cX7_bribe 0 = .ok (.iload_n 1, 1) := dk_27 (dk_at dksX7_bribe_0 0 rfl rfl)
theorem dX7_bribe_1 : decode cX7_bribe 1 = .ok (.invokestatic 197, 3) := dk_184 0 197 (dk_at dksX7_bribe_0 1 rfl rfl)
theorem dX7_bribe_4 : decode cX7_bribe 4 = .ok (.ifCond .eq 13, 3) := dk_153 0 13 (dk_at dksX7_bribe_0 4 rfl rfl)
theorem dX7_bribe_7 : decode cX7_bribe 7 = .ok (.iload_n 2, 1) := dk_28 (dk_at dksX7_bribe_0 7 rfl rfl)
theorem dX7_bribe_8 : decode cX7_bribe 8 = .ok (.i2l, 1) := dk_133 (dk_at dksX7_bribe_0 8 rfl rfl)
theorem dX7_bribe_9 : decode cX7_bribe 9 = .ok (.lconst 0, 1) := dk_9 (dk_at dksX7_bribe_0 9 rfl rfl)
theorem dX7_bribe_10 : decode cX7_bribe 10 = .ok (.lconst 1, 1) := dk_10 (dk_at dksX7_bribe_0 10 rfl rfl)
theorem dX7_bribe_11 : decode cX7_bribe 11 = .ok (.invokestatic 49, 3) := dk_184 0 49 (dk_at dksX7_bribe_0 11 rfl rfl)
theorem dX7_bribe_14 : decode cX7_bribe 14 = .ok (.ifCond .ne 5, 3) := dk_154 0 5 (dk_at dksX7_bribe_0 14 rfl rfl)
theorem dX7_bribe_17 : decode cX7_bribe 17 = .ok (.iconst (-1), 1) := dk_2 (dk_at dksX7_bribe_0 17 rfl rfl)
theorem dX7_bribe_18 : decode cX7_bribe 18 = .ok (.ireturn, 1) := dk_172 (dk_at dksX7_bribe_0 18 rfl rfl)
theorem dX7_bribe_19 : decode cX7_bribe 19 = .ok (.aload_n 0, 1) := dk_42 (dk_at dksX7_bribe_0 19 rfl rfl)
theorem dX7_bribe_20 : decode cX7_bribe 20 = .ok (.getfield 7, 3) := dk_180 0 7 (dk_at dksX7_bribe_0 20 rfl rfl)
theorem dX7_bribe_23 : decode cX7_bribe 23 = .ok (.bipush 39, 2) := dk_16 39 (dk_at dksX7_bribe_1 0 rfl rfl)
theorem dX7_bribe_25 : decode cX7_bribe 25 = .ok (.iaload, 1) := dk_46 (dk_at dksX7_bribe_1 2 rfl rfl)
theorem dX7_bribe_26 : decode cX7_bribe 26 = .ok (.iconst 4, 1) := dk_7 (dk_at dksX7_bribe_1 3 rfl rfl)
theorem dX7_bribe_27 : decode cX7_bribe 27 = .ok (.if_icmp .ne 6, 3) := dk_160 0 6 (dk_at dksX7_bribe_1 4 rfl rfl)
theorem dX7_bribe_30 : decode cX7_bribe 30 = .ok (.bipush (-3), 2) := dk_16 253 (dk_at dksX7_bribe_1 7 rfl rfl)
theorem dX7_bribe_32 : decode cX7_bribe 32 = .ok (.ireturn, 1) := dk_172 (dk_at dksX7_bribe_1 9 rfl rfl)
theorem dX7_bribe_33 : decode cX7_bribe 33 = .ok (.bipush 100, 2) := dk_16 100 (dk_at dksX7_bribe_1 10 rfl rfl)
theorem dX7_bribe_35 : decode cX7_bribe 35 = .ok (.istore_n 3, 1) := dk_62 (dk_at dksX7_bribe_1 12 rfl rfl)
theorem dX7_bribe_36 : decode cX7_bribe 36 = .ok (.iconst 0, 1) := dk_3 (dk_at dksX7_bribe_1 13 rfl rfl)
theorem dX7_bribe_37 : decode cX7_bribe 37 = .ok (.istore 4, 2) := dk_54 4 (dk_at dksX7_bribe_1 14 rfl rfl)
theorem dX7_bribe_39 : decode cX7_bribe 39 = .ok (.iconst 0, 1) := dk_3 (dk_at dksX7_bribe_1 16 rfl rfl)
theorem dX7_bribe_40 : decode cX7_bribe 40 = .ok (.istore 5, 2) := dk_54 5 (dk_at dksX7_bribe_1 17 rfl rfl)
theorem dX7_bribe_42 : decode cX7_bribe 42 = .ok (.iload 5, 2) := dk_21 5 (dk_at dksX7_bribe_1 19 rfl rfl)
theorem dX7_bribe_44 : decode cX7_bribe 44 = .ok (.bipush 98, 2) := dk_16 98 (dk_at dksX7_bribe_1 21 rfl rfl)
theorem dX7_bribe_46 : decode cX7_bribe 46 = .ok (.if_icmp .ge 97, 3) := dk_162 0 97 (dk_at dksX7_bribe_2 0 rfl rfl)
theorem dX7_bribe_49 : decode cX7_bribe 49 = .ok (.iload 5, 2) := dk_21 5 (dk_at dksX7_bribe_2 3 rfl rfl)
theorem dX7_bribe_51 : decode cX7_bribe 51 = .ok (.invokestatic 186, 3) := dk_184 0 186 (dk_at dksX7_bribe_2 5 rfl rfl)
theorem dX7_bribe_54 : decode cX7_bribe 54 = .ok (.ifCond .eq 83, 3) := dk_153 0 83 (dk_at dksX7_bribe_2 8 rfl rfl)
theorem dX7_bribe_57 : decode cX7_bribe 57 = .ok (.aload_n 0, 1) := dk_42 (dk_at dksX7_bribe_2 11 rfl rfl)
theorem dX7_bribe_58 : decode cX7_bribe 58 = .ok (.iconst 0, 1) := dk_3 (dk_at dksX7_bribe_2 12 rfl rfl)
theorem dX7_bribe_59 : decode cX7_bribe 59 = .ok (.iload 5, 2) := dk_21 5 (dk_at dksX7_bribe_2 13 rfl rfl)
theorem dX7_bribe_61 : decode cX7_bribe 61 = .ok (.invokevirtual 189, 3) := dk_182 0 189 (dk_at dksX7_bribe_2 15 rfl rfl)
theorem dX7_bribe_64 : decode cX7_bribe 64 = .ok (.ifCond .eq 73, 3) := dk_153 0 73 (dk_at dksX7_bribe_2 18 rfl rfl)
theorem dX7_bribe_67 : decode cX7_bribe 67 = .ok (.aload_n 0, 1) := dk_42 (dk_at dksX7_bribe_2 21 rfl rfl)
theorem dX7_bribe_68 : decode cX7_bribe 68 = .ok (.iconst 0, 1) := dk_3 (dk_at dksX7_bribe_2 22 rfl rfl)
theorem dX7_bribe_69 : decode cX7_bribe 69 = .ok (.sipush 164, 3) := dk_17 0 164 (dk_at dksX7_bribe_3 0 rfl rfl)
theorem dX7_bribe_72 : decode cX7_bribe 72 = .ok (.invokevirtual 218, 3) := dk_182 0 218 (dk_at dksX7_bribe_3 3 rfl rfl)
theorem dX7_bribe_75 : decode cX7_bribe 75 = .ok (.aload_n 0, 1) := dk_42 (dk_at dksX7_bribe_3 6 rfl rfl)
theorem dX7_bribe_76 : decode cX7_bribe 76 = .ok (.sipush 164, 3) := dk_17 0 164 (dk_at dksX7_bribe_3 7 rfl rfl)
theorem dX7_bribe_79 : decode cX7_bribe 79 = .ok (.iload 5, 2) := dk_21 5 (dk_at dksX7_bribe_3 10 rfl rfl)
theorem dX7_bribe_81 : decode cX7_bribe 81 = .ok (.invokevirtual 209, 3) := dk_182 0 209 (dk_at dksX7_bribe_3 12 rfl rfl)
theorem dX7_bribe_84 : decode cX7_bribe 84 = .ok (.aload_n 0, 1) := dk_42 (dk_at dksX7_bribe_3 15 rfl rfl)
theorem dX7_bribe_85 : decode cX7_bribe 85 = .ok (.sipush 164, 3) := dk_17 0 164 (dk_at dksX7_bribe_3 16 rfl rfl)
theorem dX7_bribe_88 : decode cX7_bribe 88 = .ok (.bipush (-4), 2) := dk_16 252 (dk_at dksX7_bribe_3 19 rfl rfl)
theorem dX7_bribe_90 : decode cX7_bribe 90 = .ok (.invokevirtual 172, 3) := dk_182 0 172 (dk_at dksX7_bribe_3 21 rfl rfl)
theorem dX7_bribe_93 : decode cX7_bribe 93 = .ok (.aload_n 0, 1) := dk_42 (dk_at dksX7_bribe_4 0 rfl rfl)
theorem dX7_bribe_94 : decode cX7_bribe 94 = .ok (.sipush 164, 3) := dk_17 0 164 (dk_at dksX7_bribe_4 1 rfl rfl)
theorem dX7_bribe_97 : decode cX7_bribe 97 = .ok (.iload_n 1, 1) := dk_27 (dk_at dksX7_bribe_4 4 rfl rfl)
theorem dX7_bribe_98 : decode cX7_bribe 98 = .ok (.invokevirtual 172, 3) := dk_182 0 172 (dk_at dksX7_bribe_4 5 rfl rfl)
theorem dX7_bribe_101 : decode cX7_bribe 101 = .ok (.iconst (-1), 1) := dk_2 (dk_at dksX7_bribe_4 8 rfl rfl)
theorem dX7_bribe_102 : decode cX7_bribe 102 = .ok (.ixor, 1) := dk_130 (dk_at dksX7_bribe_4 9 rfl rfl)
theorem dX7_bribe_103 : decode cX7_bribe 103 = .ok (.iand, 1) := dk_126 (dk_at dksX7_bribe_4 10 rfl rfl)
theorem dX7_bribe_104 : decode cX7_bribe 104 = .ok (.invokestatic 221, 3) := dk_184 0 221 (dk_at dksX7_bribe_4 11 rfl rfl)
theorem dX7_bribe_107 : decode cX7_bribe 107 = .ok (.istore 6, 2) := dk_54 6 (dk_at dksX7_bribe_4 14 rfl rfl)
theorem dX7_bribe_109 : decode cX7_bribe 109 = .ok (.iload 6, 2) := dk_21 6 (dk_at dksX7_bribe_4 16 rfl rfl)
theorem dX7_bribe_111 : decode cX7_bribe 111 = .ok (.iload_n 3, 1) := dk_29 (dk_at dksX7_bribe_4 18 rfl rfl)
theorem dX7_bribe_112 : decode cX7_bribe 112 = .ok (.if_icmp .ge 8, 3) := dk_162 0 8 (dk_at dksX7_bribe_4 19 rfl rfl)
theorem dX7_bribe_115 : decode cX7_bribe 115 = .ok (.iload 5, 2) := dk_21 5 (dk_at dksX7_bribe_4 22 rfl rfl)
theorem dX7_bribe_117 : decode cX7_bribe 117 = .ok (.goto 5, 3) := dk_167 0 5 (dk_at dksX7_bribe_5 0 rfl rfl)
theorem dX7_bribe_120 : decode cX7_bribe 120 = .ok (.iload 4, 2) := dk_21 4 (dk_at dksX7_bribe_5 3 rfl rfl)
theorem dX7_bribe_122 : decode cX7_bribe 122 = .ok (.istore 4, 2) := dk_54 4 (dk_at dksX7_bribe_5 5 rfl rfl)
theorem dX7_bribe_124 : decode cX7_bribe 124 = .ok (.iload 6, 2) := dk_21 6 (dk_at dksX7_bribe_5 7 rfl rfl)
theorem dX7_bribe_126 : decode cX7_bribe 126 = .ok (.iload_n 3, 1) := dk_29 (dk_at dksX7_bribe_5 9 rfl rfl)
theorem dX7_bribe_127 : decode cX7_bribe 127 = .ok (.if_icmp .ge 8, 3) := dk_162 0 8 (dk_at dksX7_bribe_5 10 rfl rfl)
theorem dX7_bribe_130 : decode cX7_bribe 130 = .ok (.iload 6, 2) := dk_21 6 (dk_at dksX7_bribe_5 13 rfl rfl)
theorem dX7_bribe_132 : decode cX7_bribe 132 = .ok (.goto 4, 3) := dk_167 0 4 (dk_at dksX7_bribe_5 15 rfl rfl)
theorem dX7_bribe_135 : decode cX7_bribe 135 = .ok (.iload_n 3, 1) := dk_29 (dk_at dksX7_bribe_5 18 rfl rfl)
theorem dX7_bribe_136 : decode cX7_bribe 136 = .ok (.istore_n 3, 1) := dk_62 (dk_at dksX7_bribe_5 19 rfl rfl)
theorem dX7_bribe_137 : decode cX7_bribe 137 = .ok (.iinc 5 1, 3) := dk_132 5 1 (dk_at dksX7_bribe_5 20 rfl rfl)
theorem dX7_bribe_140 : decode cX7_bribe 140 = .ok (.goto (-98), 3) := dk_167 255 158 (dk_at dksX7_bribe_6 0 rfl rfl)
theorem dX7_bribe_143 : decode cX7_bribe 143 = .ok (.iload_n 2, 1) := dk_28 (dk_at dksX7_bribe_6 3 rfl rfl)
theorem dX7_bribe_144 : decode cX7_bribe 144 = .ok (.ifCond .ne 8, 3) := dk_154 0 8 (dk_at dksX7_bribe_6 4 rfl rfl)
theorem dX7_bribe_147 : decode cX7_bribe 147 = .ok (.iload 4, 2) := dk_21 4 (dk_at dksX7_bribe_6 7 rfl rfl)
theorem dX7_bribe_149 : decode cX7_bribe 149 = .ok (.goto 4, 3) := dk_167 0 4 (dk_at dksX7_bribe_6 9 rfl rfl)
theorem dX7_bribe_152 : decode cX7_bribe 152 = .ok (.iload_n 3, 1) := dk_29 (dk_at dksX7_bribe_6 12 rfl rfl)
theorem dX7_bribe_153 : decode cX7_bribe 153 = .ok (.ireturn, 1) := dk_172 (dk_at dksX7_bribe_6 13 rfl rfl)
abbrev cX7_need : ByteArray := prog_11_method_60_code
def yX7_need : MethodName := ⟨RX7, "need", "(II)I"⟩
def dkwX7_need_3 : List UInt8 := [167, 255, 215, 16, 252, 172]
abbrev dktX7_need_3 : List UInt8 := dkwX7_need_3 ++ []
def dkwX7_need_2 : List UInt8 := [17, 0, 164, 27, 28, 3, 182, 0, 164, 42, 180, 0, 148, 16, 10, 160, 0, 5, 29, 172, 132, 3, 1]
abbrev dktX7_need_2 : List UInt8 := dkwX7_need_2 ++ dktX7_need_3
def dkwX7_need_1 : List UInt8 := [182, 0, 218, 4, 62, 29, 16, 9, 163, 0, 41, 42, 180, 0, 7, 17, 0, 186, 27, 96, 29, 79, 42]
abbrev dktX7_need_1 : List UInt8 := dkwX7_need_1 ++ dktX7_need_2
def dkwX7_need_0 : List UInt8 := [42, 27, 182, 0, 180, 153, 0, 10, 28, 184, 0, 213, 154, 0, 5, 2, 172, 42, 3, 17, 0, 164]
abbrev dktX7_need_0 : List UInt8 := dkwX7_need_0 ++ dktX7_need_1
theorem dksX7_need_0 : cX7_need.data.toList.drop 0 = dktX7_need_0 := by decide +kernel
theorem dksX7_need_1 : cX7_need.data.toList.drop 22 = dktX7_need_1 := dk_seg dksX7_need_0 22 rfl rfl
theorem dksX7_need_2 : cX7_need.data.toList.drop 45 = dktX7_need_2 := dk_seg dksX7_need_1 23 rfl rfl
theorem dksX7_need_3 : cX7_need.data.toList.drop 68 = dktX7_need_3 := dk_seg dksX7_need_2 23 rfl rfl
theorem dX7_need_0 : decode cX7_need 0 = .ok (.aload_n 0, 1) := dk_42 (dk_at dksX7_need_0 0 rfl rfl)
theorem dX7_need_1 : decode cX7_need 1 = .ok (.iload_n 1, 1) := dk_27 (dk_at dksX7_need_0 1 rfl rfl)
theorem dX7_need_2 : decode cX7_need 2 = .ok (.invokevirtual 180, 3) := dk_182 0 180 (dk_at dksX7_need_0 2 rfl rfl)
theorem dX7_need_5 : decode cX7_need 5 = .ok (.ifCond .eq 10, 3) := dk_153 0 10 (dk_at dksX7_need_0 5 rfl rfl)
theorem dX7_need_8 : decode cX7_need 8 = .ok (.iload_n 2, 1) := dk_28 (dk_at dksX7_need_0 8 rfl rfl)
theorem dX7_need_9 : decode cX7_need 9 = .ok (.invokestatic 213, 3) := dk_184 0 213 (dk_at dksX7_need_0 9 rfl rfl)
theorem dX7_need_12 : decode cX7_need 12 = .ok (.ifCond .ne 5, 3) := dk_154 0 5 (dk_at dksX7_need_0 12 rfl rfl)
theorem dX7_need_15 : decode cX7_need 15 = .ok (.iconst (-1), 1) := dk_2 (dk_at dksX7_need_0 15 rfl rfl)
theorem dX7_need_16 : decode cX7_need 16 = .ok (.ireturn, 1) := dk_172 (dk_at dksX7_need_0 16 rfl rfl)
theorem dX7_need_17 : decode cX7_need 17 = .ok (.aload_n 0, 1) := dk_42 (dk_at dksX7_need_0 17 rfl rfl)
theorem dX7_need_18 : decode cX7_need 18 = .ok (.iconst 0, 1) := dk_3 (dk_at dksX7_need_0 18 rfl rfl)
theorem dX7_need_19 : decode cX7_need 19 = .ok (.sipush 164, 3) := dk_17 0 164 (dk_at dksX7_need_0 19 rfl rfl)
theorem dX7_need_22 : decode cX7_need 22 = .ok (.invokevirtual 218, 3) := dk_182 0 218 (dk_at dksX7_need_1 0 rfl rfl)
theorem dX7_need_25 : decode cX7_need 25 = .ok (.iconst 1, 1) := dk_4 (dk_at dksX7_need_1 3 rfl rfl)
theorem dX7_need_26 : decode cX7_need 26 = .ok (.istore_n 3, 1) := dk_62 (dk_at dksX7_need_1 4 rfl rfl)
theorem dX7_need_27 : decode cX7_need 27 = .ok (.iload_n 3, 1) := dk_29 (dk_at dksX7_need_1 5 rfl rfl)
theorem dX7_need_28 : decode cX7_need 28 = .ok (.bipush 9, 2) := dk_16 9 (dk_at dksX7_need_1 6 rfl rfl)
theorem dX7_need_30 : decode cX7_need 30 = .ok (.if_icmp .gt 41, 3) := dk_163 0 41 (dk_at dksX7_need_1 8 rfl rfl)
theorem dX7_need_33 : decode cX7_need 33 = .ok (.aload_n 0, 1) := dk_42 (dk_at dksX7_need_1 11 rfl rfl)
theorem dX7_need_34 : decode cX7_need 34 = .ok (.getfield 7, 3) := dk_180 0 7 (dk_at dksX7_need_1 12 rfl rfl)
theorem dX7_need_37 : decode cX7_need 37 = .ok (.sipush 186, 3) := dk_17 0 186 (dk_at dksX7_need_1 15 rfl rfl)
theorem dX7_need_40 : decode cX7_need 40 = .ok (.iload_n 1, 1) := dk_27 (dk_at dksX7_need_1 18 rfl rfl)
theorem dX7_need_41 : decode cX7_need 41 = .ok (.iadd, 1) := dk_96 (dk_at dksX7_need_1 19 rfl rfl)
theorem dX7_need_42 : decode cX7_need 42 = .ok (.iload_n 3, 1) := dk_29 (dk_at dksX7_need_1 20 rfl rfl)
theorem dX7_need_43 : decode cX7_need 43 = .ok (.iastore, 1) := dk_79 (dk_at dksX7_need_1 21 rfl rfl)
theorem dX7_need_44 : decode cX7_need 44 = .ok (.aload_n 0, 1) := dk_42 (dk_at dksX7_need_1 22 rfl rfl)
theorem dX7_need_45 : decode cX7_need 45 = .ok (.sipush 164, 3) := dk_17 0 164 (dk_at dksX7_need_2 0 rfl rfl)
theorem dX7_need_48 : decode cX7_need 48 = .ok (.iload_n 1, 1) := dk_27 (dk_at dksX7_need_2 3 rfl rfl)
theorem dX7_need_49 : decode cX7_need 49 = .ok (.iload_n 2, 1) := dk_28 (dk_at dksX7_need_2 4 rfl rfl)
theorem dX7_need_50 : decode cX7_need 50 = .ok (.iconst 0, 1) := dk_3 (dk_at dksX7_need_2 5 rfl rfl)
theorem dX7_need_51 : decode cX7_need 51 = .ok (.invokevirtual 164, 3) := dk_182 0 164 (dk_at dksX7_need_2 6 rfl rfl)
theorem dX7_need_54 : decode cX7_need 54 = .ok (.aload_n 0, 1) := dk_42 (dk_at dksX7_need_2 9 rfl rfl)
theorem dX7_need_55 : decode cX7_need 55 = .ok (.getfield 148, 3) := dk_180 0 148 (dk_at dksX7_need_2 10 rfl rfl)
theorem dX7_need_58 : decode cX7_need 58 = .ok (.bipush 10, 2) := dk_16 10 (dk_at dksX7_need_2 13 rfl rfl)
theorem dX7_need_60 : decode cX7_need 60 = .ok (.if_icmp .ne 5, 3) := dk_160 0 5 (dk_at dksX7_need_2 15 rfl rfl)
theorem dX7_need_63 : decode cX7_need 63 = .ok (.iload_n 3, 1) := dk_29 (dk_at dksX7_need_2 18 rfl rfl)
theorem dX7_need_64 : decode cX7_need 64 = .ok (.ireturn, 1) := dk_172 (dk_at dksX7_need_2 19 rfl rfl)
theorem dX7_need_65 : decode cX7_need 65 = .ok (.iinc 3 1, 3) := dk_132 3 1 (dk_at dksX7_need_2 20 rfl rfl)
theorem dX7_need_68 : decode cX7_need 68 = .ok (.goto (-41), 3) := dk_167 255 215 (dk_at dksX7_need_3 0 rfl rfl)
theorem dX7_need_71 : decode cX7_need 71 = .ok (.bipush (-4), 2) := dk_16 252 (dk_at dksX7_need_3 3 rfl rfl)
theorem dX7_need_73 : decode cX7_need 73 = .ok (.ireturn, 1) := dk_172 (dk_at dksX7_need_3 5 rfl rfl)
abbrev cX7_swap : ByteArray := prog_11_method_61_code
def yX7_swap : MethodName := ⟨RX7, "swap", "(II)I"⟩
def dkwX7_swap_9 : List UInt8 := [21, 4, 167, 0, 4, 29, 172]
abbrev dktX7_swap_9 : List UInt8 := dkwX7_swap_9 ++ []
def dkwX7_swap_8 : List UInt8 := [132, 6, 1, 167, 255, 119, 132, 5, 1, 167, 255, 98, 21, 4, 16, 252, 159, 0, 7, 28, 154, 0, 8]
abbrev dktX7_swap_8 : List UInt8 := dkwX7_swap_8 ++ dktX7_swap_9
def dkwX7_swap_7 : List UInt8 := [21, 6, 96, 167, 0, 5, 21, 4, 54, 4, 21, 7, 29, 164, 0, 8, 21, 7, 167, 0, 4, 29, 62]
abbrev dktX7_swap_7 : List UInt8 := dkwX7_swap_7 ++ dktX7_swap_8
def dkwX7_swap_6 : List UInt8 := [17, 0, 164, 27, 182, 0, 172, 184, 0, 221, 54, 7, 21, 7, 29, 164, 0, 14, 16, 10, 21, 5, 104]
abbrev dktX7_swap_6 : List UInt8 := dkwX7_swap_6 ++ dktX7_swap_7
def dkwX7_swap_5 : List UInt8 := [21, 8, 21, 6, 160, 0, 8, 21, 5, 167, 0, 5, 21, 8, 79, 132, 7, 1, 167, 255, 192, 42]
abbrev dktX7_swap_5 : List UInt8 := dkwX7_swap_5 ++ dktX7_swap_6
def dkwX7_swap_4 : List UInt8 := [54, 8, 42, 180, 0, 7, 17, 0, 190, 21, 7, 96, 21, 8, 21, 5, 160, 0, 8, 21, 6, 167, 0, 17]
abbrev dktX7_swap_4 : List UInt8 := dkwX7_swap_4 ++ dktX7_swap_5
def dkwX7_swap_3 : List UInt8 := [54, 7, 21, 7, 42, 180, 0, 7, 16, 40, 46, 162, 0, 58, 42, 180, 0, 7, 16, 26, 21, 7, 96, 46]
abbrev dktX7_swap_3 : List UInt8 := dkwX7_swap_3 ++ dktX7_swap_4
def dkwX7_swap_2 : List UInt8 := [21, 5, 4, 96, 54, 6, 21, 6, 42, 180, 0, 129, 162, 0, 134, 42, 3, 17, 0, 164, 182, 0, 218, 3]
abbrev dktX7_swap_2 : List UInt8 := dkwX7_swap_2 ++ dktX7_swap_3
def dkwX7_swap_1 : List UInt8 := [182, 0, 172, 184, 0, 221, 62, 16, 252, 54, 4, 3, 54, 5, 21, 5, 42, 180, 0, 129, 162, 0, 155]
abbrev dktX7_swap_1 : List UInt8 := dkwX7_swap_1 ++ dktX7_swap_2
def dkwX7_swap_0 : List UInt8 := [27, 184, 0, 197, 153, 0, 13, 28, 133, 9, 10, 184, 0, 49, 154, 0, 5, 2, 172, 42, 3, 27]
abbrev dktX7_swap_0 : List UInt8 := dkwX7_swap_0 ++ dktX7_swap_1
theorem dksX7_swap_0 : cX7_swap.data.toList.drop 0 = dktX7_swap_0 := by decide +kernel
theorem dksX7_swap_1 : cX7_swap.data.toList.drop 22 = dktX7_swap_1 := dk_seg dksX7_swap_0 22 rfl rfl
theorem dksX7_swap_2 : cX7_swap.data.toList.drop 45 = dktX7_swap_2 := dk_seg dksX7_swap_1 23 rfl rfl
theorem dksX7_swap_3 : cX7_swap.data.toList.drop 69 = dktX7_swap_3 := dk_seg dksX7_swap_2 24 rfl rfl
theorem dksX7_swap_4 : cX7_swap.data.toList.drop 93 = dktX7_swap_4 := dk_seg dksX7_swap_3 24 rfl rfl
theorem dksX7_swap_5 : cX7_swap.data.toList.drop 117 = dktX7_swap_5 := dk_seg dksX7_swap_4 24 rfl rfl
theorem dksX7_swap_6 : cX7_swap.data.toList.drop 139 = dktX7_swap_6 := dk_seg dksX7_swap_5 22 rfl rfl
theorem dksX7_swap_7 : cX7_swap.data.toList.drop 162 = dktX7_swap_7 := dk_seg dksX7_swap_6 23 rfl rfl
theorem dksX7_swap_8 : cX7_swap.data.toList.drop 185 = dktX7_swap_8 := dk_seg dksX7_swap_7 23 rfl rfl
theorem dksX7_swap_9 : cX7_swap.data.toList.drop 208 = dktX7_swap_9 := dk_seg dksX7_swap_8 23 rfl rfl
theorem dX7_swap_0 : decode cX7_swap 0 = .ok (.iload_n 1, 1) := dk_27 (dk_at dksX7_swap_0 0 rfl rfl)
theorem dX7_swap_1 : decode cX7_swap 1 = .ok (.invokestatic 197, 3) := dk_184 0 197 (dk_at dksX7_swap_0 1 rfl rfl)
theorem dX7_swap_4 : decode cX7_swap 4 = .ok (.ifCond .eq 13, 3) := dk_153 0 13 (dk_at dksX7_swap_0 4 rfl rfl)
theorem dX7_swap_7 : decode cX7_swap 7 = .ok (.iload_n 2, 1) := dk_28 (dk_at dksX7_swap_0 7 rfl rfl)
theorem dX7_swap_8 : decode cX7_swap 8 = .ok (.i2l, 1) := dk_133 (dk_at dksX7_swap_0 8 rfl rfl)
theorem dX7_swap_9 : decode cX7_swap 9 = .ok (.lconst 0, 1) := dk_9 (dk_at dksX7_swap_0 9 rfl rfl)
theorem dX7_swap_10 : decode cX7_swap 10 = .ok (.lconst 1, 1) := dk_10 (dk_at dksX7_swap_0 10 rfl rfl)
theorem dX7_swap_11 : decode cX7_swap 11 = .ok (.invokestatic 49, 3) := dk_184 0 49 (dk_at dksX7_swap_0 11 rfl rfl)
theorem dX7_swap_14 : decode cX7_swap 14 = .ok (.ifCond .ne 5, 3) := dk_154 0 5 (dk_at dksX7_swap_0 14 rfl rfl)
theorem dX7_swap_17 : decode cX7_swap 17 = .ok (.iconst (-1), 1) := dk_2 (dk_at dksX7_swap_0 17 rfl rfl)
theorem dX7_swap_18 : decode cX7_swap 18 = .ok (.ireturn, 1) := dk_172 (dk_at dksX7_swap_0 18 rfl rfl)
theorem dX7_swap_19 : decode cX7_swap 19 = .ok (.aload_n 0, 1) := dk_42 (dk_at dksX7_swap_0 19 rfl rfl)
theorem dX7_swap_20 : decode cX7_swap 20 = .ok (.iconst 0, 1) := dk_3 (dk_at dksX7_swap_0 20 rfl rfl)
theorem dX7_swap_21 : decode cX7_swap 21 = .ok (.iload_n 1, 1) := dk_27 (dk_at dksX7_swap_0 21 rfl rfl)
theorem dX7_swap_22 : decode cX7_swap 22 = .ok (.invokevirtual 172, 3) := dk_182 0 172 (dk_at dksX7_swap_1 0 rfl rfl)
theorem dX7_swap_25 : decode cX7_swap 25 = .ok (.invokestatic 221, 3) := dk_184 0 221 (dk_at dksX7_swap_1 3 rfl rfl)
theorem dX7_swap_28 : decode cX7_swap 28 = .ok (.istore_n 3, 1) := dk_62 (dk_at dksX7_swap_1 6 rfl rfl)
theorem dX7_swap_29 : decode cX7_swap 29 = .ok (.bipush (-4), 2) := dk_16 252 (dk_at dksX7_swap_1 7 rfl rfl)
theorem dX7_swap_31 : decode cX7_swap 31 = .ok (.istore 4, 2) := dk_54 4 (dk_at dksX7_swap_1 9 rfl rfl)
theorem dX7_swap_33 : decode cX7_swap 33 = .ok (.iconst 0, 1) := dk_3 (dk_at dksX7_swap_1 11 rfl rfl)
theorem dX7_swap_34 : decode cX7_swap 34 = .ok (.istore 5, 2) := dk_54 5 (dk_at dksX7_swap_1 12 rfl rfl)
theorem dX7_swap_36 : decode cX7_swap 36 = .ok (.iload 5, 2) := dk_21 5 (dk_at dksX7_swap_1 14 rfl rfl)
theorem dX7_swap_38 : decode cX7_swap 38 = .ok (.aload_n 0, 1) := dk_42 (dk_at dksX7_swap_1 16 rfl rfl)
theorem dX7_swap_39 : decode cX7_swap 39 = .ok (.getfield 129, 3) := dk_180 0 129 (dk_at dksX7_swap_1 17 rfl rfl)
theorem dX7_swap_42 : decode cX7_swap 42 = .ok (.if_icmp .ge 155, 3) := dk_162 0 155 (dk_at dksX7_swap_1 20 rfl rfl)
theorem dX7_swap_45 : decode cX7_swap 45 = .ok (.iload 5, 2) := dk_21 5 (dk_at dksX7_swap_2 0 rfl rfl)
theorem dX7_swap_47 : decode cX7_swap 47 = .ok (.iconst 1, 1) := dk_4 (dk_at dksX7_swap_2 2 rfl rfl)
theorem dX7_swap_48 : decode cX7_swap 48 = .ok (.iadd, 1) := dk_96 (dk_at dksX7_swap_2 3 rfl rfl)
theorem dX7_swap_49 : decode cX7_swap 49 = .ok (.istore 6, 2) := dk_54 6 (dk_at dksX7_swap_2 4 rfl rfl)
theorem dX7_swap_51 : decode cX7_swap 51 = .ok (.iload 6, 2) := dk_21 6 (dk_at dksX7_swap_2 6 rfl rfl)
theorem dX7_swap_53 : decode cX7_swap 53 = .ok (.aload_n 0, 1) := dk_42 (dk_at dksX7_swap_2 8 rfl rfl)
theorem dX7_swap_54 : decode cX7_swap 54 = .ok (.getfield 129, 3) := dk_180 0 129 (dk_at dksX7_swap_2 9 rfl rfl)
theorem dX7_swap_57 : decode cX7_swap 57 = .ok (.if_icmp .ge 134, 3) := dk_162 0 134 (dk_at dksX7_swap_2 12 rfl rfl)
theorem dX7_swap_60 : decode cX7_swap 60 = .ok (.aload_n 0, 1) := dk_42 (dk_at dksX7_swap_2 15 rfl rfl)
theorem dX7_swap_61 : decode cX7_swap 61 = .ok (.iconst 0, 1) := dk_3 (dk_at dksX7_swap_2 16 rfl rfl)
theorem dX7_swap_62 : decode cX7_swap 62 = .ok (.sipush 164, 3) := dk_17 0 164 (dk_at dksX7_swap_2 17 rfl rfl)
theorem dX7_swap_65 : decode cX7_swap 65 = .ok (.invokevirtual 218, 3) := dk_182 0 218 (dk_at dksX7_swap_2 20 rfl rfl)
theorem dX7_swap_68 : decode cX7_swap 68 = .ok (.iconst 0, 1) := dk_3 (dk_at dksX7_swap_2 23 rfl rfl)
theorem dX7_swap_69 : decode cX7_swap 69 = .ok (.istore 7, 2) := dk_54 7 (dk_at dksX7_swap_3 0 rfl rfl)
theorem dX7_swap_71 : decode cX7_swap 71 = .ok (.iload 7, 2) := dk_21 7 (dk_at dksX7_swap_3 2 rfl rfl)
theorem dX7_swap_73 : decode cX7_swap 73 = .ok (.aload_n 0, 1) := dk_42 (dk_at dksX7_swap_3 4 rfl rfl)
theorem dX7_swap_74 : decode cX7_swap 74 = .ok (.getfield 7, 3) := dk_180 0 7 (dk_at dksX7_swap_3 5 rfl rfl)
theorem dX7_swap_77 : decode cX7_swap 77 = .ok (.bipush 40, 2) := dk_16 40 (dk_at dksX7_swap_3 8 rfl rfl)
theorem dX7_swap_79 : decode cX7_swap 79 = .ok (.iaload, 1) := dk_46 (dk_at dksX7_swap_3 10 rfl rfl)
theorem dX7_swap_80 : decode cX7_swap 80 = .ok (.if_icmp .ge 58, 3) := dk_162 0 58 (dk_at dksX7_swap_3 11 rfl rfl)
theorem dX7_swap_83 : decode cX7_swap 83 = .ok (.aload_n 0, 1) := dk_42 (dk_at dksX7_swap_3 14 rfl rfl)
theorem dX7_swap_84 : decode cX7_swap 84 = .ok (.getfield 7, 3) := dk_180 0 7 (dk_at dksX7_swap_3 15 rfl rfl)
theorem dX7_swap_87 : decode cX7_swap 87 = .ok (.bipush 26, 2) := dk_16 26 (dk_at dksX7_swap_3 18 rfl rfl)
theorem dX7_swap_89 : decode cX7_swap 89 = .ok (.iload 7, 2) := dk_21 7 (dk_at dksX7_swap_3 20 rfl rfl)
theorem dX7_swap_91 : decode cX7_swap 91 = .ok (.iadd, 1) := dk_96 (dk_at dksX7_swap_3 22 rfl rfl)
theorem dX7_swap_92 : decode cX7_swap 92 = .ok (.iaload, 1) := dk_46 (dk_at dksX7_swap_3 23 rfl rfl)
theorem dX7_swap_93 : decode cX7_swap 93 = .ok (.istore 8, 2) := dk_54 8 (dk_at dksX7_swap_4 0 rfl rfl)
theorem dX7_swap_95 : decode cX7_swap 95 = .ok (.aload_n 0, 1) := dk_42 (dk_at dksX7_swap_4 2 rfl rfl)
theorem dX7_swap_96 : decode cX7_swap 96 = .ok (.getfield 7, 3) := dk_180 0 7 (dk_at dksX7_swap_4 3 rfl rfl)
theorem dX7_swap_99 : decode cX7_swap 99 = .ok (.sipush 190, 3) := dk_17 0 190 (dk_at dksX7_swap_4 6 rfl rfl)
theorem dX7_swap_102 : decode cX7_swap 102 = .ok (.iload 7, 2) := dk_21 7 (dk_at dksX7_swap_4 9 rfl rfl)
theorem dX7_swap_104 : decode cX7_swap 104 = .ok (.iadd, 1) := dk_96 (dk_at dksX7_swap_4 11 rfl rfl)
theorem dX7_swap_105 : decode cX7_swap 105 = .ok (.iload 8, 2) := dk_21 8 (dk_at dksX7_swap_4 12 rfl rfl)
theorem dX7_swap_107 : decode cX7_swap 107 = .ok (.iload 5, 2) := dk_21 5 (dk_at dksX7_swap_4 14 rfl rfl)
theorem dX7_swap_109 : decode cX7_swap 109 = .ok (.if_icmp .ne 8, 3) := dk_160 0 8 (dk_at dksX7_swap_4 16 rfl rfl)
theorem dX7_swap_112 : decode cX7_swap 112 = .ok (.iload 6, 2) := dk_21 6 (dk_at dksX7_swap_4 19 rfl rfl)
theorem dX7_swap_114 : decode cX7_swap 114 = .ok (.goto 17, 3) := dk_167 0 17 (dk_at dksX7_swap_4 21 rfl rfl)
theorem dX7_swap_117 : decode cX7_swap 117 = .ok (.iload 8, 2) := dk_21 8 (dk_at dksX7_swap_5 0 rfl rfl)
theorem dX7_swap_119 : decode cX7_swap 119 = .ok (.iload 6, 2) := dk_21 6 (dk_at dksX7_swap_5 2 rfl rfl)
theorem dX7_swap_121 : decode cX7_swap 121 = .ok (.if_icmp .ne 8, 3) := dk_160 0 8 (dk_at dksX7_swap_5 4 rfl rfl)
theorem dX7_swap_124 : decode cX7_swap 124 = .ok (.iload 5, 2) := dk_21 5 (dk_at dksX7_swap_5 7 rfl rfl)
theorem dX7_swap_126 : decode cX7_swap 126 = .ok (.goto 5, 3) := dk_167 0 5 (dk_at dksX7_swap_5 9 rfl rfl)
theorem dX7_swap_129 : decode cX7_swap 129 = .ok (.iload 8, 2) := dk_21 8 (dk_at dksX7_swap_5 12 rfl rfl)
theorem dX7_swap_131 : decode cX7_swap 131 = .ok (.iastore, 1) := dk_79 (dk_at dksX7_swap_5 14 rfl rfl)
theorem dX7_swap_132 : decode cX7_swap 132 = .ok (.iinc 7 1, 3) := dk_132 7 1 (dk_at dksX7_swap_5 15 rfl rfl)
theorem dX7_swap_135 : decode cX7_swap 135 = .ok (.goto (-64), 3) := dk_167 255 192 (dk_at dksX7_swap_5 18 rfl rfl)
theorem dX7_swap_138 : decode cX7_swap 138 = .ok (.aload_n 0, 1) := dk_42 (dk_at dksX7_swap_5 21 rfl rfl)
theorem dX7_swap_139 : decode cX7_swap 139 = .ok (.sipush 164, 3) := dk_17 0 164 (dk_at dksX7_swap_6 0 rfl rfl)
theorem dX7_swap_142 : decode cX7_swap 142 = .ok (.iload_n 1, 1) := dk_27 (dk_at dksX7_swap_6 3 rfl rfl)
theorem dX7_swap_143 : decode cX7_swap 143 = .ok (.invokevirtual 172, 3) := dk_182 0 172 (dk_at dksX7_swap_6 4 rfl rfl)
theorem dX7_swap_146 : decode cX7_swap 146 = .ok (.invokestatic 221, 3) := dk_184 0 221 (dk_at dksX7_swap_6 7 rfl rfl)
theorem dX7_swap_149 : decode cX7_swap 149 = .ok (.istore 7, 2) := dk_54 7 (dk_at dksX7_swap_6 10 rfl rfl)
theorem dX7_swap_151 : decode cX7_swap 151 = .ok (.iload 7, 2) := dk_21 7 (dk_at dksX7_swap_6 12 rfl rfl)
theorem dX7_swap_153 : decode cX7_swap 153 = .ok (.iload_n 3, 1) := dk_29 (dk_at dksX7_swap_6 14 rfl rfl)
theorem dX7_swap_154 : decode cX7_swap 154 = .ok (.if_icmp .le 14, 3) := dk_164 0 14 (dk_at dksX7_swap_6 15 rfl rfl)
theorem dX7_swap_157 : decode cX7_swap 157 = .ok (.bipush 10, 2) := dk_16 10 (dk_at dksX7_swap_6 18 rfl rfl)
theorem dX7_swap_159 : decode cX7_swap 159 = .ok (.iload 5, 2) := dk_21 5 (dk_at dksX7_swap_6 20 rfl rfl)
theorem dX7_swap_161 : decode cX7_swap 161 = .ok (.imul, 1) := dk_104 (dk_at dksX7_swap_6 22 rfl rfl)
theorem dX7_swap_162 : decode cX7_swap 162 = .ok (.iload 6, 2) := dk_21 6 (dk_at dksX7_swap_7 0 rfl rfl)
theorem dX7_swap_164 : decode cX7_swap 164 = .ok (.iadd, 1) := dk_96 (dk_at dksX7_swap_7 2 rfl rfl)
theorem dX7_swap_165 : decode cX7_swap 165 = .ok (.goto 5, 3) := dk_167 0 5 (dk_at dksX7_swap_7 3 rfl rfl)
theorem dX7_swap_168 : decode cX7_swap 168 = .ok (.iload 4, 2) := dk_21 4 (dk_at dksX7_swap_7 6 rfl rfl)
theorem dX7_swap_170 : decode cX7_swap 170 = .ok (.istore 4, 2) := dk_54 4 (dk_at dksX7_swap_7 8 rfl rfl)
theorem dX7_swap_172 : decode cX7_swap 172 = .ok (.iload 7, 2) := dk_21 7 (dk_at dksX7_swap_7 10 rfl rfl)
theorem dX7_swap_174 : decode cX7_swap 174 = .ok (.iload_n 3, 1) := dk_29 (dk_at dksX7_swap_7 12 rfl rfl)
theorem dX7_swap_175 : decode cX7_swap 175 = .ok (.if_icmp .le 8, 3) := dk_164 0 8 (dk_at dksX7_swap_7 13 rfl rfl)
theorem dX7_swap_178 : decode cX7_swap 178 = .ok (.iload 7, 2) := dk_21 7 (dk_at dksX7_swap_7 16 rfl rfl)
theorem dX7_swap_180 : decode cX7_swap 180 = .ok (.goto 4, 3) := dk_167 0 4 (dk_at dksX7_swap_7 18 rfl rfl)
theorem dX7_swap_183 : decode cX7_swap 183 = .ok (.iload_n 3, 1) := dk_29 (dk_at dksX7_swap_7 21 rfl rfl)
theorem dX7_swap_184 : decode cX7_swap 184 = .ok (.istore_n 3, 1) := dk_62 (dk_at dksX7_swap_7 22 rfl rfl)
theorem dX7_swap_185 : decode cX7_swap 185 = .ok (.iinc 6 1, 3) := dk_132 6 1 (dk_at dksX7_swap_8 0 rfl rfl)
theorem dX7_swap_188 : decode cX7_swap 188 = .ok (.goto (-137), 3) := dk_167 255 119 (dk_at dksX7_swap_8 3 rfl rfl)
theorem dX7_swap_191 : decode cX7_swap 191 = .ok (.iinc 5 1, 3) := dk_132 5 1 (dk_at dksX7_swap_8 6 rfl rfl)
theorem dX7_swap_194 : decode cX7_swap 194 = .ok (.goto (-158), 3) := dk_167 255 98 (dk_at dksX7_swap_8 9 rfl rfl)
theorem dX7_swap_197 : decode cX7_swap 197 = .ok (.iload 4, 2) := dk_21 4 (dk_at dksX7_swap_8 12 rfl rfl)
theorem dX7_swap_199 : decode cX7_swap 199 = .ok (.bipush (-4), 2) := dk_16 252 (dk_at dksX7_swap_8 14 rfl rfl)
theorem dX7_swap_201 : decode cX7_swap 201 = .ok (.if_icmp .eq 7, 3) := dk_159 0 7 (dk_at dksX7_swap_8 16 rfl rfl)
theorem dX7_swap_204 : decode cX7_swap 204 = .ok (.iload_n 2, 1) := dk_28 (dk_at dksX7_swap_8 19 rfl rfl)
theorem dX7_swap_205 : decode cX7_swap 205 = .ok (.ifCond .ne 8, 3) := dk_154 0 8 (dk_at dksX7_swap_8 20 rfl rfl)
theorem dX7_swap_208 : decode cX7_swap 208 = .ok (.iload 4, 2) := dk_21 4 (dk_at dksX7_swap_9 0 rfl rfl)
theorem dX7_swap_210 : decode cX7_swap 210 = .ok (.goto 4, 3) := dk_167 0 4 (dk_at dksX7_swap_9 2 rfl rfl)
theorem dX7_swap_213 : decode cX7_swap 213 = .ok (.iload_n 3, 1) := dk_29 (dk_at dksX7_swap_9 5 rfl rfl)
theorem dX7_swap_214 : decode cX7_swap 214 = .ok (.ireturn, 1) := dk_172 (dk_at dksX7_swap_9 6 rfl rfl)
abbrev cX7_pull : ByteArray := prog_11_method_62_code
def yX7_pull : MethodName := ⟨RX7, "pull", "(II)I"⟩
def dkwX7_pull_8 : List UInt8 := [159, 0, 7, 28, 154, 0, 8, 21, 4, 167, 0, 4, 29, 172]
abbrev dktX7_pull_8 : List UInt8 := dkwX7_pull_8 ++ []
def dkwX7_pull_7 : List UInt8 := [21, 6, 29, 164, 0, 8, 21, 6, 167, 0, 4, 29, 62, 132, 5, 1, 167, 255, 113, 21, 4, 16, 252]
abbrev dktX7_pull_7 : List UInt8 := dkwX7_pull_7 ++ dktX7_pull_8
def dkwX7_pull_6 : List UInt8 := [182, 0, 172, 184, 0, 221, 54, 6, 21, 6, 29, 164, 0, 8, 21, 5, 167, 0, 5, 21, 4, 54, 4]
abbrev dktX7_pull_6 : List UInt8 := dkwX7_pull_6 ++ dktX7_pull_7
def dkwX7_pull_5 : List UInt8 := [79, 132, 6, 1, 167, 255, 198, 42, 180, 0, 7, 17, 0, 202, 92, 46, 4, 100, 79, 42, 17, 0, 164, 27]
abbrev dktX7_pull_5 : List UInt8 := dkwX7_pull_5 ++ dktX7_pull_6
def dkwX7_pull_4 : List UInt8 := [46, 79, 42, 180, 0, 7, 17, 0, 171, 21, 6, 96, 4, 100, 42, 180, 0, 7, 16, 7, 21, 6, 96, 46]
abbrev dktX7_pull_4 : List UInt8 := dkwX7_pull_4 ++ dktX7_pull_5
def dkwX7_pull_3 : List UInt8 := [16, 38, 46, 162, 0, 52, 42, 180, 0, 7, 17, 0, 164, 21, 6, 96, 4, 100, 42, 180, 0, 7, 21, 6]
abbrev dktX7_pull_3 : List UInt8 := dkwX7_pull_3 ++ dktX7_pull_4
def dkwX7_pull_2 : List UInt8 := [162, 0, 137, 42, 3, 17, 0, 164, 182, 0, 218, 21, 5, 4, 96, 54, 6, 21, 6, 42, 180, 0, 7]
abbrev dktX7_pull_2 : List UInt8 := dkwX7_pull_2 ++ dktX7_pull_3
def dkwX7_pull_1 : List UInt8 := [182, 0, 172, 184, 0, 221, 62, 16, 252, 54, 4, 3, 54, 5, 21, 5, 42, 180, 0, 7, 16, 38, 46]
abbrev dktX7_pull_1 : List UInt8 := dkwX7_pull_1 ++ dktX7_pull_2
def dkwX7_pull_0 : List UInt8 := [27, 184, 0, 197, 153, 0, 13, 28, 133, 9, 10, 184, 0, 49, 154, 0, 5, 2, 172, 42, 3, 27]
abbrev dktX7_pull_0 : List UInt8 := dkwX7_pull_0 ++ dktX7_pull_1
theorem dksX7_pull_0 : cX7_pull.data.toList.drop 0 = dktX7_pull_0 := by decide +kernel
theorem dksX7_pull_1 : cX7_pull.data.toList.drop 22 = dktX7_pull_1 := dk_seg dksX7_pull_0 22 rfl rfl
theorem dksX7_pull_2 : cX7_pull.data.toList.drop 45 = dktX7_pull_2 := dk_seg dksX7_pull_1 23 rfl rfl
theorem dksX7_pull_3 : cX7_pull.data.toList.drop 68 = dktX7_pull_3 := dk_seg dksX7_pull_2 23 rfl rfl
theorem dksX7_pull_4 : cX7_pull.data.toList.drop 92 = dktX7_pull_4 := dk_seg dksX7_pull_3 24 rfl rfl
theorem dksX7_pull_5 : cX7_pull.data.toList.drop 116 = dktX7_pull_5 := dk_seg dksX7_pull_4 24 rfl rfl
theorem dksX7_pull_6 : cX7_pull.data.toList.drop 140 = dktX7_pull_6 := dk_seg dksX7_pull_5 24 rfl rfl
theorem dksX7_pull_7 : cX7_pull.data.toList.drop 163 = dktX7_pull_7 := dk_seg dksX7_pull_6 23 rfl rfl
theorem dksX7_pull_8 : cX7_pull.data.toList.drop 186 = dktX7_pull_8 := dk_seg dksX7_pull_7 23 rfl rfl
theorem dX7_pull_0 : decode cX7_pull 0 = .ok (.iload_n 1, 1) := dk_27 (dk_at dksX7_pull_0 0 rfl rfl)
theorem dX7_pull_1 : decode cX7_pull 1 = .ok (.invokestatic 197, 3) := dk_184 0 197 (dk_at dksX7_pull_0 1 rfl rfl)
theorem dX7_pull_4 : decode cX7_pull 4 = .ok (.ifCond .eq 13, 3) := dk_153 0 13 (dk_at dksX7_pull_0 4 rfl rfl)
theorem dX7_pull_7 : decode cX7_pull 7 = .ok (.iload_n 2, 1) := dk_28 (dk_at dksX7_pull_0 7 rfl rfl)
theorem dX7_pull_8 : decode cX7_pull 8 = .ok (.i2l, 1) := dk_133 (dk_at dksX7_pull_0 8 rfl rfl)
theorem dX7_pull_9 : decode cX7_pull 9 = .ok (.lconst 0, 1) := dk_9 (dk_at dksX7_pull_0 9 rfl rfl)
theorem dX7_pull_10 : decode cX7_pull 10 = .ok (.lconst 1, 1) := dk_10 (dk_at dksX7_pull_0 10 rfl rfl)
theorem dX7_pull_11 : decode cX7_pull 11 = .ok (.invokestatic 49, 3) := dk_184 0 49 (dk_at dksX7_pull_0 11 rfl rfl)
theorem dX7_pull_14 : decode cX7_pull 14 = .ok (.ifCond .ne 5, 3) := dk_154 0 5 (dk_at dksX7_pull_0 14 rfl rfl)
theorem dX7_pull_17 : decode cX7_pull 17 = .ok (.iconst (-1), 1) := dk_2 (dk_at dksX7_pull_0 17 rfl rfl)
theorem dX7_pull_18 : decode cX7_pull 18 = .ok (.ireturn, 1) := dk_172 (dk_at dksX7_pull_0 18 rfl rfl)
theorem dX7_pull_19 : decode cX7_pull 19 = .ok (.aload_n 0, 1) := dk_42 (dk_at dksX7_pull_0 19 rfl rfl)
theorem dX7_pull_20 : decode cX7_pull 20 = .ok (.iconst 0, 1) := dk_3 (dk_at dksX7_pull_0 20 rfl rfl)
theorem dX7_pull_21 : decode cX7_pull 21 = .ok (.iload_n 1, 1) := dk_27 (dk_at dksX7_pull_0 21 rfl rfl)
theorem dX7_pull_22 : decode cX7_pull 22 = .ok (.invokevirtual 172, 3) := dk_182 0 172 (dk_at dksX7_pull_1 0 rfl rfl)
theorem dX7_pull_25 : decode cX7_pull 25 = .ok (.invokestatic 221, 3) := dk_184 0 221 (dk_at dksX7_pull_1 3 rfl rfl)
theorem dX7_pull_28 : decode cX7_pull 28 = .ok (.istore_n 3, 1) := dk_62 (dk_at dksX7_pull_1 6 rfl rfl)
theorem dX7_pull_29 : decode cX7_pull 29 = .ok (.bipush (-4), 2) := dk_16 252 (dk_at dksX7_pull_1 7 rfl rfl)
theorem dX7_pull_31 : decode cX7_pull 31 = .ok (.istore 4, 2) := dk_54 4 (dk_at dksX7_pull_1 9 rfl rfl)
theorem dX7_pull_33 : decode cX7_pull 33 = .ok (.iconst 0, 1) := dk_3 (dk_at dksX7_pull_1 11 rfl rfl)
theorem dX7_pull_34 : decode cX7_pull 34 = .ok (.istore 5, 2) := dk_54 5 (dk_at dksX7_pull_1 12 rfl rfl)
theorem dX7_pull_36 : decode cX7_pull 36 = .ok (.iload 5, 2) := dk_21 5 (dk_at dksX7_pull_1 14 rfl rfl)
theorem dX7_pull_38 : decode cX7_pull 38 = .ok (.aload_n 0, 1) := dk_42 (dk_at dksX7_pull_1 16 rfl rfl)
theorem dX7_pull_39 : decode cX7_pull 39 = .ok (.getfield 7, 3) := dk_180 0 7 (dk_at dksX7_pull_1 17 rfl rfl)
theorem dX7_pull_42 : decode cX7_pull 42 = .ok (.bipush 38, 2) := dk_16 38 (dk_at dksX7_pull_1 20 rfl rfl)
theorem dX7_pull_44 : decode cX7_pull 44 = .ok (.iaload, 1) := dk_46 (dk_at dksX7_pull_1 22 rfl rfl)
theorem dX7_pull_45 : decode cX7_pull 45 = .ok (.if_icmp .ge 137, 3) := dk_162 0 137 (dk_at dksX7_pull_2 0 rfl rfl)
theorem dX7_pull_48 : decode cX7_pull 48 = .ok (.aload_n 0, 1) := dk_42 (dk_at dksX7_pull_2 3 rfl rfl)
theorem dX7_pull_49 : decode cX7_pull 49 = .ok (.iconst 0, 1) := dk_3 (dk_at dksX7_pull_2 4 rfl rfl)
theorem dX7_pull_50 : decode cX7_pull 50 = .ok (.sipush 164, 3) := dk_17 0 164 (dk_at dksX7_pull_2 5 rfl rfl)
theorem dX7_pull_53 : decode cX7_pull 53 = .ok (.invokevirtual 218, 3) := dk_182 0 218 (dk_at dksX7_pull_2 8 rfl rfl)
theorem dX7_pull_56 : decode cX7_pull 56 = .ok (.iload 5, 2) := dk_21 5 (dk_at dksX7_pull_2 11 rfl rfl)
theorem dX7_pull_58 : decode cX7_pull 58 = .ok (.iconst 1, 1) := dk_4 (dk_at dksX7_pull_2 13 rfl rfl)
theorem dX7_pull_59 : decode cX7_pull 59 = .ok (.iadd, 1) := dk_96 (dk_at dksX7_pull_2 14 rfl rfl)
theorem dX7_pull_60 : decode cX7_pull 60 = .ok (.istore 6, 2) := dk_54 6 (dk_at dksX7_pull_2 15 rfl rfl)
theorem dX7_pull_62 : decode cX7_pull 62 = .ok (.iload 6, 2) := dk_21 6 (dk_at dksX7_pull_2 17 rfl rfl)
theorem dX7_pull_64 : decode cX7_pull 64 = .ok (.aload_n 0, 1) := dk_42 (dk_at dksX7_pull_2 19 rfl rfl)
theorem dX7_pull_65 : decode cX7_pull 65 = .ok (.getfield 7, 3) := dk_180 0 7 (dk_at dksX7_pull_2 20 rfl rfl)
theorem dX7_pull_68 : decode cX7_pull 68 = .ok (.bipush 38, 2) := dk_16 38 (dk_at dksX7_pull_3 0 rfl rfl)
theorem dX7_pull_70 : decode cX7_pull 70 = .ok (.iaload, 1) := dk_46 (dk_at dksX7_pull_3 2 rfl rfl)
theorem dX7_pull_71 : decode cX7_pull 71 = .ok (.if_icmp .ge 52, 3) := dk_162 0 52 (dk_at dksX7_pull_3 3 rfl rfl)
theorem dX7_pull_74 : decode cX7_pull 74 = .ok (.aload_n 0, 1) := dk_42 (dk_at dksX7_pull_3 6 rfl rfl)
theorem dX7_pull_75 : decode cX7_pull 75 = .ok (.getfield 7, 3) := dk_180 0 7 (dk_at dksX7_pull_3 7 rfl rfl)
theorem dX7_pull_78 : decode cX7_pull 78 = .ok (.sipush 164, 3) := dk_17 0 164 (dk_at dksX7_pull_3 10 rfl rfl)
theorem dX7_pull_81 : decode cX7_pull 81 = .ok (.iload 6, 2) := dk_21 6 (dk_at dksX7_pull_3 13 rfl rfl)
theorem dX7_pull_83 : decode cX7_pull 83 = .ok (.iadd, 1) := dk_96 (dk_at dksX7_pull_3 15 rfl rfl)
theorem dX7_pull_84 : decode cX7_pull 84 = .ok (.iconst 1, 1) := dk_4 (dk_at dksX7_pull_3 16 rfl rfl)
theorem dX7_pull_85 : decode cX7_pull 85 = .ok (.isub, 1) := dk_100 (dk_at dksX7_pull_3 17 rfl rfl)
theorem dX7_pull_86 : decode cX7_pull 86 = .ok (.aload_n 0, 1) := dk_42 (dk_at dksX7_pull_3 18 rfl rfl)
theorem dX7_pull_87 : decode cX7_pull 87 = .ok (.getfield 7, 3) := dk_180 0 7 (dk_at dksX7_pull_3 19 rfl rfl)
theorem dX7_pull_90 : decode cX7_pull 90 = .ok (.iload 6, 2) := dk_21 6 (dk_at dksX7_pull_3 22 rfl rfl)
theorem dX7_pull_92 : decode cX7_pull 92 = .ok (.iaload, 1) := dk_46 (dk_at dksX7_pull_4 0 rfl rfl)
theorem dX7_pull_93 : decode cX7_pull 93 = .ok (.iastore, 1) := dk_79 (dk_at dksX7_pull_4 1 rfl rfl)
theorem dX7_pull_94 : decode cX7_pull 94 = .ok (.aload_n 0, 1) := dk_42 (dk_at dksX7_pull_4 2 rfl rfl)
theorem dX7_pull_95 : decode cX7_pull 95 = .ok (.getfield 7, 3) := dk_180 0 7 (dk_at dksX7_pull_4 3 rfl rfl)
theorem dX7_pull_98 : decode cX7_pull 98 = .ok (.sipush 171, 3) := dk_17 0 171 (dk_at dksX7_pull_4 6 rfl rfl)
theorem dX7_pull_101 : decode cX7_pull 101 = .ok (.iload 6, 2) := dk_21 6 (dk_at dksX7_pull_4 9 rfl rfl)
theorem dX7_pull_103 : decode cX7_pull 103 = .ok (.iadd, 1) := dk_96 (dk_at dksX7_pull_4 11 rfl rfl)
theorem dX7_pull_104 : decode cX7_pull 104 = .ok (.iconst 1, 1) := dk_4 (dk_at dksX7_pull_4 12 rfl rfl)
theorem dX7_pull_105 : decode cX7_pull 105 = .ok (.isub, 1) := dk_100 (dk_at dksX7_pull_4 13 rfl rfl)
theorem dX7_pull_106 : decode cX7_pull 106 = .ok (.aload_n 0, 1) := dk_42 (dk_at dksX7_pull_4 14 rfl rfl)
theorem dX7_pull_107 : decode cX7_pull 107 = .ok (.getfield 7, 3) := dk_180 0 7 (dk_at dksX7_pull_4 15 rfl rfl)
theorem dX7_pull_110 : decode cX7_pull 110 = .ok (.bipush 7, 2) := dk_16 7 (dk_at dksX7_pull_4 18 rfl rfl)
theorem dX7_pull_112 : decode cX7_pull 112 = .ok (.iload 6, 2) := dk_21 6 (dk_at dksX7_pull_4 20 rfl rfl)
theorem dX7_pull_114 : decode cX7_pull 114 = .ok (.iadd, 1) := dk_96 (dk_at dksX7_pull_4 22 rfl rfl)
theorem dX7_pull_115 : decode cX7_pull 115 = .ok (.iaload, 1) := dk_46 (dk_at dksX7_pull_4 23 rfl rfl)
theorem dX7_pull_116 : decode cX7_pull 116 = .ok (.iastore, 1) := dk_79 (dk_at dksX7_pull_5 0 rfl rfl)
theorem dX7_pull_117 : decode cX7_pull 117 = .ok (.iinc 6 1, 3) := dk_132 6 1 (dk_at dksX7_pull_5 1 rfl rfl)
theorem dX7_pull_120 : decode cX7_pull 120 = .ok (.goto (-58), 3) := dk_167 255 198 (dk_at dksX7_pull_5 4 rfl rfl)
theorem dX7_pull_123 : decode cX7_pull 123 = .ok (.aload_n 0, 1) := dk_42 (dk_at dksX7_pull_5 7 rfl rfl)
theorem dX7_pull_124 : decode cX7_pull 124 = .ok (.getfield 7, 3) := dk_180 0 7 (dk_at dksX7_pull_5 8 rfl rfl)
theorem dX7_pull_127 : decode cX7_pull 127 = .ok (.sipush 202, 3) := dk_17 0 202 (dk_at dksX7_pull_5 11 rfl rfl)
theorem dX7_pull_130 : decode cX7_pull 130 = .ok (.dup2, 1) := dk_92 (dk_at dksX7_pull_5 14 rfl rfl)
theorem dX7_pull_131 : decode cX7_pull 131 = .ok (.iaload, 1) := dk_46 (dk_at dksX7_pull_5 15 rfl rfl)
theorem dX7_pull_132 : decode cX7_pull 132 = .ok (.iconst 1, 1) := dk_4 (dk_at dksX7_pull_5 16 rfl rfl)
theorem dX7_pull_133 : decode cX7_pull 133 = .ok (.isub, 1) := dk_100 (dk_at dksX7_pull_5 17 rfl rfl)
theorem dX7_pull_134 : decode cX7_pull 134 = .ok (.iastore, 1) := dk_79 (dk_at dksX7_pull_5 18 rfl rfl)
theorem dX7_pull_135 : decode cX7_pull 135 = .ok (.aload_n 0, 1) := dk_42 (dk_at dksX7_pull_5 19 rfl rfl)
theorem dX7_pull_136 : decode cX7_pull 136 = .ok (.sipush 164, 3) := dk_17 0 164 (dk_at dksX7_pull_5 20 rfl rfl)
theorem dX7_pull_139 : decode cX7_pull 139 = .ok (.iload_n 1, 1) := dk_27 (dk_at dksX7_pull_5 23 rfl rfl)
theorem dX7_pull_140 : decode cX7_pull 140 = .ok (.invokevirtual 172, 3) := dk_182 0 172 (dk_at dksX7_pull_6 0 rfl rfl)
theorem dX7_pull_143 : decode cX7_pull 143 = .ok (.invokestatic 221, 3) := dk_184 0 221 (dk_at dksX7_pull_6 3 rfl rfl)
theorem dX7_pull_146 : decode cX7_pull 146 = .ok (.istore 6, 2) := dk_54 6 (dk_at dksX7_pull_6 6 rfl rfl)
theorem dX7_pull_148 : decode cX7_pull 148 = .ok (.iload 6, 2) := dk_21 6 (dk_at dksX7_pull_6 8 rfl rfl)
theorem dX7_pull_150 : decode cX7_pull 150 = .ok (.iload_n 3, 1) := dk_29 (dk_at dksX7_pull_6 10 rfl rfl)
theorem dX7_pull_151 : decode cX7_pull 151 = .ok (.if_icmp .le 8, 3) := dk_164 0 8 (dk_at dksX7_pull_6 11 rfl rfl)
theorem dX7_pull_154 : decode cX7_pull 154 = .ok (.iload 5, 2) := dk_21 5 (dk_at dksX7_pull_6 14 rfl rfl)
theorem dX7_pull_156 : decode cX7_pull 156 = .ok (.goto 5, 3) := dk_167 0 5 (dk_at dksX7_pull_6 16 rfl rfl)
theorem dX7_pull_159 : decode cX7_pull 159 = .ok (.iload 4, 2) := dk_21 4 (dk_at dksX7_pull_6 19 rfl rfl)
theorem dX7_pull_161 : decode cX7_pull 161 = .ok (.istore 4, 2) := dk_54 4 (dk_at dksX7_pull_6 21 rfl rfl)
theorem dX7_pull_163 : decode cX7_pull 163 = .ok (.iload 6, 2) := dk_21 6 (dk_at dksX7_pull_7 0 rfl rfl)
theorem dX7_pull_165 : decode cX7_pull 165 = .ok (.iload_n 3, 1) := dk_29 (dk_at dksX7_pull_7 2 rfl rfl)
theorem dX7_pull_166 : decode cX7_pull 166 = .ok (.if_icmp .le 8, 3) := dk_164 0 8 (dk_at dksX7_pull_7 3 rfl rfl)
theorem dX7_pull_169 : decode cX7_pull 169 = .ok (.iload 6, 2) := dk_21 6 (dk_at dksX7_pull_7 6 rfl rfl)
theorem dX7_pull_171 : decode cX7_pull 171 = .ok (.goto 4, 3) := dk_167 0 4 (dk_at dksX7_pull_7 8 rfl rfl)
theorem dX7_pull_174 : decode cX7_pull 174 = .ok (.iload_n 3, 1) := dk_29 (dk_at dksX7_pull_7 11 rfl rfl)
theorem dX7_pull_175 : decode cX7_pull 175 = .ok (.istore_n 3, 1) := dk_62 (dk_at dksX7_pull_7 12 rfl rfl)
theorem dX7_pull_176 : decode cX7_pull 176 = .ok (.iinc 5 1, 3) := dk_132 5 1 (dk_at dksX7_pull_7 13 rfl rfl)
theorem dX7_pull_179 : decode cX7_pull 179 = .ok (.goto (-143), 3) := dk_167 255 113 (dk_at dksX7_pull_7 16 rfl rfl)
theorem dX7_pull_182 : decode cX7_pull 182 = .ok (.iload 4, 2) := dk_21 4 (dk_at dksX7_pull_7 19 rfl rfl)
theorem dX7_pull_184 : decode cX7_pull 184 = .ok (.bipush (-4), 2) := dk_16 252 (dk_at dksX7_pull_7 21 rfl rfl)
theorem dX7_pull_186 : decode cX7_pull 186 = .ok (.if_icmp .eq 7, 3) := dk_159 0 7 (dk_at dksX7_pull_8 0 rfl rfl)
theorem dX7_pull_189 : decode cX7_pull 189 = .ok (.iload_n 2, 1) := dk_28 (dk_at dksX7_pull_8 3 rfl rfl)
theorem dX7_pull_190 : decode cX7_pull 190 = .ok (.ifCond .ne 8, 3) := dk_154 0 8 (dk_at dksX7_pull_8 4 rfl rfl)
theorem dX7_pull_193 : decode cX7_pull 193 = .ok (.iload 4, 2) := dk_21 4 (dk_at dksX7_pull_8 7 rfl rfl)
theorem dX7_pull_195 : decode cX7_pull 195 = .ok (.goto 4, 3) := dk_167 0 4 (dk_at dksX7_pull_8 9 rfl rfl)
theorem dX7_pull_198 : decode cX7_pull 198 = .ok (.iload_n 3, 1) := dk_29 (dk_at dksX7_pull_8 12 rfl rfl)
theorem dX7_pull_199 : decode cX7_pull 199 = .ok (.ireturn, 1) := dk_172 (dk_at dksX7_pull_8 13 rfl rfl)
abbrev cX7_luck : ByteArray := prog_11_method_65_code
def yX7_luck : MethodName := ⟨RX7, "luck", "(IIIII)J"⟩
def dkwX7_luck_2 : List UInt8 := [28, 29, 21, 4, 21, 5, 182, 0, 232, 167, 0, 6, 20, 0, 236, 173]
abbrev dktX7_luck_2 : List UInt8 := dkwX7_luck_2 ++ []
def dkwX7_luck_1 : List UInt8 := [153, 0, 36, 21, 4, 184, 0, 197, 153, 0, 28, 21, 5, 133, 9, 10, 184, 0, 49, 153, 0, 17, 42, 27]
abbrev dktX7_luck_1 : List UInt8 := dkwX7_luck_1 ++ dktX7_luck_2
def dkwX7_luck_0 : List UInt8 := [27, 133, 9, 20, 0, 230, 184, 0, 49, 153, 0, 51, 42, 28, 182, 0, 180, 153, 0, 43, 29, 184, 0, 213]
abbrev dktX7_luck_0 : List UInt8 := dkwX7_luck_0 ++ dktX7_luck_1
theorem dksX7_luck_0 : cX7_luck.data.toList.drop 0 = dktX7_luck_0 := by decide +kernel
theorem dksX7_luck_1 : cX7_luck.data.toList.drop 24 = dktX7_luck_1 := dk_seg dksX7_luck_0 24 rfl rfl
theorem dksX7_luck_2 : cX7_luck.data.toList.drop 48 = dktX7_luck_2 := dk_seg dksX7_luck_1 24 rfl rfl
theorem dX7_luck_0 : decode cX7_luck 0 = .ok (.iload_n 1, 1) := dk_27 (dk_at dksX7_luck_0 0 rfl rfl)
theorem dX7_luck_1 : decode cX7_luck 1 = .ok (.i2l, 1) := dk_133 (dk_at dksX7_luck_0 1 rfl rfl)
theorem dX7_luck_2 : decode cX7_luck 2 = .ok (.lconst 0, 1) := dk_9 (dk_at dksX7_luck_0 2 rfl rfl)
theorem dX7_luck_3 : decode cX7_luck 3 = .ok (.ldc2_w 230, 3) := dk_20 0 230 (dk_at dksX7_luck_0 3 rfl rfl)
theorem dX7_luck_6 : decode cX7_luck 6 = .ok (.invokestatic 49, 3) := dk_184 0 49 (dk_at dksX7_luck_0 6 rfl rfl)
theorem dX7_luck_9 : decode cX7_luck 9 = .ok (.ifCond .eq 51, 3) := dk_153 0 51 (dk_at dksX7_luck_0 9 rfl rfl)
theorem dX7_luck_12 : decode cX7_luck 12 = .ok (.aload_n 0, 1) := dk_42 (dk_at dksX7_luck_0 12 rfl rfl)
theorem dX7_luck_13 : decode cX7_luck 13 = .ok (.iload_n 2, 1) := dk_28 (dk_at dksX7_luck_0 13 rfl rfl)
theorem dX7_luck_14 : decode cX7_luck 14 = .ok (.invokevirtual 180, 3) := dk_182 0 180 (dk_at dksX7_luck_0 14 rfl rfl)
theorem dX7_luck_17 : decode cX7_luck 17 = .ok (.ifCond .eq 43, 3) := dk_153 0 43 (dk_at dksX7_luck_0 17 rfl rfl)
theorem dX7_luck_20 : decode cX7_luck 20 = .ok (.iload_n 3, 1) := dk_29 (dk_at dksX7_luck_0 20 rfl rfl)
theorem dX7_luck_21 : decode cX7_luck 21 = .ok (.invokestatic 213, 3) := dk_184 0 213 (dk_at dksX7_luck_0 21 rfl rfl)
theorem dX7_luck_24 : decode cX7_luck 24 = .ok (.ifCond .eq 36, 3) := dk_153 0 36 (dk_at dksX7_luck_1 0 rfl rfl)
theorem dX7_luck_27 : decode cX7_luck 27 = .ok (.iload 4, 2) := dk_21 4 (dk_at dksX7_luck_1 3 rfl rfl)
theorem dX7_luck_29 : decode cX7_luck 29 = .ok (.invokestatic 197, 3) := dk_184 0 197 (dk_at dksX7_luck_1 5 rfl rfl)
theorem dX7_luck_32 : decode cX7_luck 32 = .ok (.ifCond .eq 28, 3) := dk_153 0 28 (dk_at dksX7_luck_1 8 rfl rfl)
theorem dX7_luck_35 : decode cX7_luck 35 = .ok (.iload 5, 2) := dk_21 5 (dk_at dksX7_luck_1 11 rfl rfl)
theorem dX7_luck_37 : decode cX7_luck 37 = .ok (.i2l, 1) := dk_133 (dk_at dksX7_luck_1 13 rfl rfl)
theorem dX7_luck_38 : decode cX7_luck 38 = .ok (.lconst 0, 1) := dk_9 (dk_at dksX7_luck_1 14 rfl rfl)
theorem dX7_luck_39 : decode cX7_luck 39 = .ok (.lconst 1, 1) := dk_10 (dk_at dksX7_luck_1 15 rfl rfl)
theorem dX7_luck_40 : decode cX7_luck 40 = .ok (.invokestatic 49, 3) := dk_184 0 49 (dk_at dksX7_luck_1 16 rfl rfl)
theorem dX7_luck_43 : decode cX7_luck 43 = .ok (.ifCond .eq 17, 3) := dk_153 0 17 (dk_at dksX7_luck_1 19 rfl rfl)
theorem dX7_luck_46 : decode cX7_luck 46 = .ok (.aload_n 0, 1) := dk_42 (dk_at dksX7_luck_1 22 rfl rfl)
theorem dX7_luck_47 : decode cX7_luck 47 = .ok (.iload_n 1, 1) := dk_27 (dk_at dksX7_luck_1 23 rfl rfl)
theorem dX7_luck_48 : decode cX7_luck 48 = .ok (.iload_n 2, 1) := dk_28 (dk_at dksX7_luck_2 0 rfl rfl)
theorem dX7_luck_49 : decode cX7_luck 49 = .ok (.iload_n 3, 1) := dk_29 (dk_at dksX7_luck_2 1 rfl rfl)
theorem dX7_luck_50 : decode cX7_luck 50 = .ok (.iload 4, 2) := dk_21 4 (dk_at dksX7_luck_2 2 rfl rfl)
theorem dX7_luck_52 : decode cX7_luck 52 = .ok (.iload 5, 2) := dk_21 5 (dk_at dksX7_luck_2 4 rfl rfl)
theorem dX7_luck_54 : decode cX7_luck 54 = .ok (.invokevirtual 232, 3) := dk_182 0 232 (dk_at dksX7_luck_2 6 rfl rfl)
theorem dX7_luck_57 : decode cX7_luck 57 = .ok (.goto 6, 3) := dk_167 0 6 (dk_at dksX7_luck_2 9 rfl rfl)
theorem dX7_luck_60 : decode cX7_luck 60 = .ok (.ldc2_w 236, 3) := dk_20 0 236 (dk_at dksX7_luck_2 12 rfl rfl)
theorem dX7_luck_63 : decode cX7_luck 63 = .ok (.lreturn, 1) := dk_173 (dk_at dksX7_luck_2 15 rfl rfl)
abbrev cX7_byTurns : ByteArray := prog_11_method_64_code
def yX7_byTurns : MethodName := ⟨RX7, "byTurns", "(IIIII)J"⟩
def dkwX7_byTurns_6 : List UInt8 := [22, 8, 21, 5, 184, 0, 226, 173]
abbrev dktX7_byTurns_6 : List UInt8 := dkwX7_byTurns_6 ++ []
def dkwX7_byTurns_5 : List UInt8 := [21, 4, 160, 0, 7, 4, 167, 0, 4, 3, 133, 105, 97, 55, 6, 132, 10, 1, 167, 255, 130, 22, 6]
abbrev dktX7_byTurns_5 : List UInt8 := dkwX7_byTurns_5 ++ dktX7_byTurns_6
def dkwX7_byTurns_4 : List UInt8 := [167, 0, 34, 42, 180, 0, 145, 16, 252, 159, 0, 24, 42, 180, 0, 7, 16, 7, 42, 180, 0, 145, 96, 46]
abbrev dktX7_byTurns_4 : List UInt8 := dkwX7_byTurns_4 ++ dktX7_byTurns_5
def dkwX7_byTurns_3 : List UInt8 := [42, 3, 28, 29, 21, 10, 182, 0, 164, 22, 6, 22, 11, 21, 4, 16, 252, 160, 0, 10, 42, 180, 0, 151]
abbrev dktX7_byTurns_3 : List UInt8 := dkwX7_byTurns_3 ++ dktX7_byTurns_4
def dkwX7_byTurns_2 : List UInt8 := [167, 0, 8, 16, 10, 27, 100, 133, 105, 55, 11, 132, 13, 1, 167, 255, 220, 22, 11, 9, 148, 158, 0, 66]
abbrev dktX7_byTurns_2 : List UInt8 := dkwX7_byTurns_2 ++ dktX7_byTurns_3
def dkwX7_byTurns_1 : List UInt8 := [54, 13, 21, 13, 16, 10, 162, 0, 35, 22, 11, 21, 10, 21, 13, 122, 4, 126, 4, 160, 0, 8, 27, 133]
abbrev dktX7_byTurns_1 : List UInt8 := dkwX7_byTurns_1 ++ dktX7_byTurns_2
def dkwX7_byTurns_0 : List UInt8 := [9, 55, 6, 20, 0, 224, 55, 8, 3, 54, 10, 21, 10, 17, 4, 0, 162, 0, 124, 10, 55, 11, 3]
abbrev dktX7_byTurns_0 : List UInt8 := dkwX7_byTurns_0 ++ dktX7_byTurns_1
theorem dksX7_byTurns_0 : cX7_byTurns.data.toList.drop 0 = dktX7_byTurns_0 := by decide +kernel
theorem dksX7_byTurns_1 : cX7_byTurns.data.toList.drop 23 = dktX7_byTurns_1 := dk_seg dksX7_byTurns_0 23 rfl rfl
theorem dksX7_byTurns_2 : cX7_byTurns.data.toList.drop 47 = dktX7_byTurns_2 := dk_seg dksX7_byTurns_1 24 rfl rfl
theorem dksX7_byTurns_3 : cX7_byTurns.data.toList.drop 71 = dktX7_byTurns_3 := dk_seg dksX7_byTurns_2 24 rfl rfl
theorem dksX7_byTurns_4 : cX7_byTurns.data.toList.drop 95 = dktX7_byTurns_4 := dk_seg dksX7_byTurns_3 24 rfl rfl
theorem dksX7_byTurns_5 : cX7_byTurns.data.toList.drop 119 = dktX7_byTurns_5 := dk_seg dksX7_byTurns_4 24 rfl rfl
theorem dksX7_byTurns_6 : cX7_byTurns.data.toList.drop 142 = dktX7_byTurns_6 := dk_seg dksX7_byTurns_5 23 rfl rfl
theorem dX7_byTurns_0 : decode cX7_byTurns 0 = .ok (.lconst 0, 1) := dk_9 (dk_at dksX7_byTurns_0 0 rfl rfl)
theorem dX7_byTurns_1 : decode cX7_byTurns 1 = .ok (.lstore 6, 2) := dk_55 6 (dk_at dksX7_byTurns_0 1 rfl rfl)
theorem dX7_byTurns_3 : decode cX7_byTurns 3 = .ok (.ldc2_w 224, 3) := dk_20 0 224 (dk_at dksX7_byTurns_0 3 rfl rfl)
theorem dX7_byTurns_6 : decode cX7_byTurns 6 = .ok (.lstore 8, 2) := dk_55 8 (dk_at dksX7_byTurns_0 6 rfl rfl)
theorem dX7_byTurns_8 : decode cX7_byTurns 8 = .ok (.iconst 0, 1) := dk_3 (dk_at dksX7_byTurns_0 8 rfl rfl)
theorem dX7_byTurns_9 : decode cX7_byTurns 9 = .ok (.istore 10, 2) := dk_54 10 (dk_at dksX7_byTurns_0 9 rfl rfl)
theorem dX7_byTurns_11 : decode cX7_byTurns 11 = .ok (.iload 10, 2) := dk_21 10 (dk_at dksX7_byTurns_0 11 rfl rfl)
theorem dX7_byTurns_13 : decode cX7_byTurns 13 = .ok (.sipush 1024, 3) := dk_17 4 0 (dk_at dksX7_byTurns_0 13 rfl rfl)
theorem dX7_byTurns_16 : decode cX7_byTurns 16 = .ok (.if_icmp .ge 124, 3) := dk_162 0 124 (dk_at dksX7_byTurns_0 16 rfl rfl)
theorem dX7_byTurns_19 : decode cX7_byTurns 19 = .ok (.lconst 1, 1) := dk_10 (dk_at dksX7_byTurns_0 19 rfl rfl)
theorem dX7_byTurns_20 : decode cX7_byTurns 20 = .ok (.lstore 11, 2) := dk_55 11 (dk_at dksX7_byTurns_0 20 rfl rfl)
theorem dX7_byTurns_22 : decode cX7_byTurns 22 = .ok (.iconst 0, 1) := dk_3 (dk_at dksX7_byTurns_0 22 rfl rfl)
theorem dX7_byTurns_23 : decode cX7_byTurns 23 = .ok (.istore 13, 2) := dk_54 13 (dk_at dksX7_byTurns_1 0 rfl rfl)
theorem dX7_byTurns_25 : decode cX7_byTurns 25 = .ok (.iload 13, 2) := dk_21 13 (dk_at dksX7_byTurns_1 2 rfl rfl)
theorem dX7_byTurns_27 : decode cX7_byTurns 27 = .ok (.bipush 10, 2) := dk_16 10 (dk_at dksX7_byTurns_1 4 rfl rfl)
theorem dX7_byTurns_29 : decode cX7_byTurns 29 = .ok (.if_icmp .ge 35, 3) := dk_162 0 35 (dk_at dksX7_byTurns_1 6 rfl rfl)
theorem dX7_byTurns_32 : decode cX7_byTurns 32 = .ok (.lload 11, 2) := dk_22 11 (dk_at dksX7_byTurns_1 9 rfl rfl)
theorem dX7_byTurns_34 : decode cX7_byTurns 34 = .ok (.iload 10, 2) := dk_21 10 (dk_at dksX7_byTurns_1 11 rfl rfl)
theorem dX7_byTurns_36 : decode cX7_byTurns 36 = .ok (.iload 13, 2) := dk_21 13 (dk_at dksX7_byTurns_1 13 rfl rfl)
theorem dX7_byTurns_38 : decode cX7_byTurns 38 = .ok (.ishr, 1) := dk_122 (dk_at dksX7_byTurns_1 15 rfl rfl)
theorem dX7_byTurns_39 : decode cX7_byTurns 39 = .ok (.iconst 1, 1) := dk_4 (dk_at dksX7_byTurns_1 16 rfl rfl)
theorem dX7_byTurns_40 : decode cX7_byTurns 40 = .ok (.iand, 1) := dk_126 (dk_at dksX7_byTurns_1 17 rfl rfl)
theorem dX7_byTurns_41 : decode cX7_byTurns 41 = .ok (.iconst 1, 1) := dk_4 (dk_at dksX7_byTurns_1 18 rfl rfl)
theorem dX7_byTurns_42 : decode cX7_byTurns 42 = .ok (.if_icmp .ne 8, 3) := dk_160 0 8 (dk_at dksX7_byTurns_1 19 rfl rfl)
theorem dX7_byTurns_45 : decode cX7_byTurns 45 = .ok (.iload_n 1, 1) := dk_27 (dk_at dksX7_byTurns_1 22 rfl rfl)
theorem dX7_byTurns_46 : decode cX7_byTurns 46 = .ok (.i2l, 1) := dk_133 (dk_at dksX7_byTurns_1 23 rfl rfl)
theorem dX7_byTurns_47 : decode cX7_byTurns 47 = .ok (.goto 8, 3) := dk_167 0 8 (dk_at dksX7_byTurns_2 0 rfl rfl)
theorem dX7_byTurns_50 : decode cX7_byTurns 50 = .ok (.bipush 10, 2) := dk_16 10 (dk_at dksX7_byTurns_2 3 rfl rfl)
theorem dX7_byTurns_52 : decode cX7_byTurns 52 = .ok (.iload_n 1, 1) := dk_27 (dk_at dksX7_byTurns_2 5 rfl rfl)
theorem dX7_byTurns_53 : decode cX7_byTurns 53 = .ok (.isub, 1) := dk_100 (dk_at dksX7_byTurns_2 6 rfl rfl)
theorem dX7_byTurns_54 : decode cX7_byTurns 54 = .ok (.i2l, 1) := dk_133 (dk_at dksX7_byTurns_2 7 rfl rfl)
theorem dX7_byTurns_55 : decode cX7_byTurns 55 = .ok (.lmul, 1) := dk_105 (dk_at dksX7_byTurns_2 8 rfl rfl)
theorem dX7_byTurns_56 : decode cX7_byTurns 56 = .ok (.lstore 11, 2) := dk_55 11 (dk_at dksX7_byTurns_2 9 rfl rfl)
theorem dX7_byTurns_58 : decode cX7_byTurns 58 = .ok (.iinc 13 1, 3) := dk_132 13 1 (dk_at dksX7_byTurns_2 11 rfl rfl)
theorem dX7_byTurns_61 : decode cX7_byTurns 61 = .ok (.goto (-36), 3) := dk_167 255 220 (dk_at dksX7_byTurns_2 14 rfl rfl)
theorem dX7_byTurns_64 : decode cX7_byTurns 64 = .ok (.lload 11, 2) := dk_22 11 (dk_at dksX7_byTurns_2 17 rfl rfl)
theorem dX7_byTurns_66 : decode cX7_byTurns 66 = .ok (.lconst 0, 1) := dk_9 (dk_at dksX7_byTurns_2 19 rfl rfl)
theorem dX7_byTurns_67 : decode cX7_byTurns 67 = .ok (.lcmp, 1) := dk_148 (dk_at dksX7_byTurns_2 20 rfl rfl)
theorem dX7_byTurns_68 : decode cX7_byTurns 68 = .ok (.ifCond .le 66, 3) := dk_158 0 66 (dk_at dksX7_byTurns_2 21 rfl rfl)
theorem dX7_byTurns_71 : decode cX7_byTurns 71 = .ok (.aload_n 0, 1) := dk_42 (dk_at dksX7_byTurns_3 0 rfl rfl)
theorem dX7_byTurns_72 : decode cX7_byTurns 72 = .ok (.iconst 0, 1) := dk_3 (dk_at dksX7_byTurns_3 1 rfl rfl)
theorem dX7_byTurns_73 : decode cX7_byTurns 73 = .ok (.iload_n 2, 1) := dk_28 (dk_at dksX7_byTurns_3 2 rfl rfl)
theorem dX7_byTurns_74 : decode cX7_byTurns 74 = .ok (.iload_n 3, 1) := dk_29 (dk_at dksX7_byTurns_3 3 rfl rfl)
theorem dX7_byTurns_75 : decode cX7_byTurns 75 = .ok (.iload 10, 2) := dk_21 10 (dk_at dksX7_byTurns_3 4 rfl rfl)
theorem dX7_byTurns_77 : decode cX7_byTurns 77 = .ok (.invokevirtual 164, 3) := dk_182 0 164 (dk_at dksX7_byTurns_3 6 rfl rfl)
theorem dX7_byTurns_80 : decode cX7_byTurns 80 = .ok (.lload 6, 2) := dk_22 6 (dk_at dksX7_byTurns_3 9 rfl rfl)
theorem dX7_byTurns_82 : decode cX7_byTurns 82 = .ok (.lload 11, 2) := dk_22 11 (dk_at dksX7_byTurns_3 11 rfl rfl)
theorem dX7_byTurns_84 : decode cX7_byTurns 84 = .ok (.iload 4, 2) := dk_21 4 (dk_at dksX7_byTurns_3 13 rfl rfl)
theorem dX7_byTurns_86 : decode cX7_byTurns 86 = .ok (.bipush (-4), 2) := dk_16 252 (dk_at dksX7_byTurns_3 15 rfl rfl)
theorem dX7_byTurns_88 : decode cX7_byTurns 88 = .ok (.if_icmp .ne 10, 3) := dk_160 0 10 (dk_at dksX7_byTurns_3 17 rfl rfl)
theorem dX7_byTurns_91 : decode cX7_byTurns 91 = .ok (.aload_n 0, 1) := dk_42 (dk_at dksX7_byTurns_3 20 rfl rfl)
theorem dX7_byTurns_92 : decode cX7_byTurns 92 = .ok (.getfield 151, 3) := dk_180 0 151 (dk_at dksX7_byTurns_3 21 rfl rfl)
theorem dX7_byTurns_95 : decode cX7_byTurns 95 = .ok (.goto 34, 3) := dk_167 0 34 (dk_at dksX7_byTurns_4 0 rfl rfl)
theorem dX7_byTurns_98 : decode cX7_byTurns 98 = .ok (.aload_n 0, 1) := dk_42 (dk_at dksX7_byTurns_4 3 rfl rfl)
theorem dX7_byTurns_99 : decode cX7_byTurns 99 = .ok (.getfield 145, 3) := dk_180 0 145 (dk_at dksX7_byTurns_4 4 rfl rfl)
theorem dX7_byTurns_102 : decode cX7_byTurns 102 = .ok (.bipush (-4), 2) := dk_16 252 (dk_at dksX7_byTurns_4 7 rfl rfl)
theorem dX7_byTurns_104 : decode cX7_byTurns 104 = .ok (.if_icmp .eq 24, 3) := dk_159 0 24 (dk_at dksX7_byTurns_4 9 rfl rfl)
theorem dX7_byTurns_107 : decode cX7_byTurns 107 = .ok (.aload_n 0, 1) := dk_42 (dk_at dksX7_byTurns_4 12 rfl rfl)
theorem dX7_byTurns_108 : decode cX7_byTurns 108 = .ok (.getfield 7, 3) := dk_180 0 7 (dk_at dksX7_byTurns_4 13 rfl rfl)
theorem dX7_byTurns_111 : decode cX7_byTurns 111 = .ok (.bipush 7, 2) := dk_16 7 (dk_at dksX7_byTurns_4 16 rfl rfl)
theorem dX7_byTurns_113 : decode cX7_byTurns 113 = .ok (.aload_n 0, 1) := dk_42 (dk_at dksX7_byTurns_4 18 rfl rfl)
theorem dX7_byTurns_114 : decode cX7_byTurns 114 = .ok (.getfield 145, 3) := dk_180 0 145 (dk_at dksX7_byTurns_4 19 rfl rfl)
theorem dX7_byTurns_117 : decode cX7_byTurns 117 = .ok (.iadd, 1) := dk_96 (dk_at dksX7_byTurns_4 22 rfl rfl)
theorem dX7_byTurns_118 : decode cX7_byTurns 118 = .ok (.iaload, 1) := dk_46 (dk_at dksX7_byTurns_4 23 rfl rfl)
theorem dX7_byTurns_119 : decode cX7_byTurns 119 = .ok (.iload 4, 2) := dk_21 4 (dk_at dksX7_byTurns_5 0 rfl rfl)
theorem dX7_byTurns_121 : decode cX7_byTurns 121 = .ok (.if_icmp .ne 7, 3) := dk_160 0 7 (dk_at dksX7_byTurns_5 2 rfl rfl)
theorem dX7_byTurns_124 : decode cX7_byTurns 124 = .ok (.iconst 1, 1) := dk_4 (dk_at dksX7_byTurns_5 5 rfl rfl)
theorem dX7_byTurns_125 : decode cX7_byTurns 125 = .ok (.goto 4, 3) := dk_167 0 4 (dk_at dksX7_byTurns_5 6 rfl rfl)
theorem dX7_byTurns_128 : decode cX7_byTurns 128 = .ok (.iconst 0, 1) := dk_3 (dk_at dksX7_byTurns_5 9 rfl rfl)
theorem dX7_byTurns_129 : decode cX7_byTurns 129 = .ok (.i2l, 1) := dk_133 (dk_at dksX7_byTurns_5 10 rfl rfl)
theorem dX7_byTurns_130 : decode cX7_byTurns 130 = .ok (.lmul, 1) := dk_105 (dk_at dksX7_byTurns_5 11 rfl rfl)
theorem dX7_byTurns_131 : decode cX7_byTurns 131 = .ok (.ladd, 1) := dk_97 (dk_at dksX7_byTurns_5 12 rfl rfl)
theorem dX7_byTurns_132 : decode cX7_byTurns 132 = .ok (.lstore 6, 2) := dk_55 6 (dk_at dksX7_byTurns_5 13 rfl rfl)
theorem dX7_byTurns_134 : decode cX7_byTurns 134 = .ok (.iinc 10 1, 3) := dk_132 10 1 (dk_at dksX7_byTurns_5 15 rfl rfl)
theorem dX7_byTurns_137 : decode cX7_byTurns 137 = .ok (.goto (-126), 3) := dk_167 255 130 (dk_at dksX7_byTurns_5 18 rfl rfl)
theorem dX7_byTurns_140 : decode cX7_byTurns 140 = .ok (.lload 6, 2) := dk_22 6 (dk_at dksX7_byTurns_5 21 rfl rfl)
theorem dX7_byTurns_142 : decode cX7_byTurns 142 = .ok (.lload 8, 2) := dk_22 8 (dk_at dksX7_byTurns_6 0 rfl rfl)
theorem dX7_byTurns_144 : decode cX7_byTurns 144 = .ok (.iload 5, 2) := dk_21 5 (dk_at dksX7_byTurns_6 2 rfl rfl)
theorem dX7_byTurns_146 : decode cX7_byTurns 146 = .ok (.invokestatic 226, 3) := dk_184 0 226 (dk_at dksX7_byTurns_6 4 rfl rfl)
theorem dX7_byTurns_149 : decode cX7_byTurns 149 = .ok (.lreturn, 1) := dk_173 (dk_at dksX7_byTurns_6 7 rfl rfl)
abbrev cX7_lowest : ByteArray := prog_11_method_63_code
def yX7_lowest : MethodName := ⟨RX7, "lowest", "(JJI)J"⟩
def dkwX7_lowest_1 : List UInt8 := [22, 9, 55, 7, 167, 255, 234, 21, 4, 154, 0, 7, 30, 167, 0, 4, 32, 22, 5, 109, 173]
abbrev dktX7_lowest_1 : List UInt8 := dkwX7_lowest_1 ++ []
def dkwX7_lowest_0 : List UInt8 := [30, 55, 5, 32, 55, 7, 22, 7, 9, 148, 153, 0, 21, 22, 5, 22, 7, 113, 55, 9, 22, 7, 55, 5]
abbrev dktX7_lowest_0 : List UInt8 := dkwX7_lowest_0 ++ dktX7_lowest_1
theorem dksX7_lowest_0 : cX7_lowest.data.toList.drop 0 = dktX7_lowest_0 := by decide +kernel
theorem dksX7_lowest_1 : cX7_lowest.data.toList.drop 24 = dktX7_lowest_1 := dk_seg dksX7_lowest_0 24 rfl rfl
theorem dX7_lowest_0 : decode cX7_lowest 0 = .ok (.lload_n 0, 1) := dk_30 (dk_at dksX7_lowest_0 0 rfl rfl)
theorem dX7_lowest_1 : decode cX7_lowest 1 = .ok (.lstore 5, 2) := dk_55 5 (dk_at dksX7_lowest_0 1 rfl rfl)
theorem dX7_lowest_3 : decode cX7_lowest 3 = .ok (.lload_n 2, 1) := dk_32 (dk_at dksX7_lowest_0 3 rfl rfl)
theorem dX7_lowest_4 : decode cX7_lowest 4 = .ok (.lstore 7, 2) := dk_55 7 (dk_at dksX7_lowest_0 4 rfl rfl)
theorem dX7_lowest_6 : decode cX7_lowest 6 = .ok (.lload 7, 2) := dk_22 7 (dk_at dksX7_lowest_0 6 rfl rfl)
theorem dX7_lowest_8 : decode cX7_lowest 8 = .ok (.lconst 0, 1) := dk_9 (dk_at dksX7_lowest_0 8 rfl rfl)
theorem dX7_lowest_9 : decode cX7_lowest 9 = .ok (.lcmp, 1) := dk_148 (dk_at dksX7_lowest_0 9 rfl rfl)
theorem dX7_lowest_10 : decode cX7_lowest 10 = .ok (.ifCond .eq 21, 3) := dk_153 0 21 (dk_at dksX7_lowest_0 10 rfl rfl)
theorem dX7_lowest_13 : decode cX7_lowest 13 = .ok (.lload 5, 2) := dk_22 5 (dk_at dksX7_lowest_0 13 rfl rfl)
theorem dX7_lowest_15 : decode cX7_lowest 15 = .ok (.lload 7, 2) := dk_22 7 (dk_at dksX7_lowest_0 15 rfl rfl)
theorem dX7_lowest_17 : decode cX7_lowest 17 = .ok (.lrem, 1) := dk_113 (dk_at dksX7_lowest_0 17 rfl rfl)
theorem dX7_lowest_18 : decode cX7_lowest 18 = .ok (.lstore 9, 2) := dk_55 9 (dk_at dksX7_lowest_0 18 rfl rfl)
theorem dX7_lowest_20 : decode cX7_lowest 20 = .ok (.lload 7, 2) := dk_22 7 (dk_at dksX7_lowest_0 20 rfl rfl)
theorem dX7_lowest_22 : decode cX7_lowest 22 = .ok (.lstore 5, 2) := dk_55 5 (dk_at dksX7_lowest_0 22 rfl rfl)
theorem dX7_lowest_24 : decode cX7_lowest 24 = .ok (.lload 9, 2) := dk_22 9 (dk_at dksX7_lowest_1 0 rfl rfl)
theorem dX7_lowest_26 : decode cX7_lowest 26 = .ok (.lstore 7, 2) := dk_55 7 (dk_at dksX7_lowest_1 2 rfl rfl)
theorem dX7_lowest_28 : decode cX7_lowest 28 = .ok (.goto (-22), 3) := dk_167 255 234 (dk_at dksX7_lowest_1 4 rfl rfl)
theorem dX7_lowest_31 : decode cX7_lowest 31 = .ok (.iload 4, 2) := dk_21 4 (dk_at dksX7_lowest_1 7 rfl rfl)
theorem dX7_lowest_33 : decode cX7_lowest 33 = .ok (.ifCond .ne 7, 3) := dk_154 0 7 (dk_at dksX7_lowest_1 9 rfl rfl)
theorem dX7_lowest_36 : decode cX7_lowest 36 = .ok (.lload_n 0, 1) := dk_30 (dk_at dksX7_lowest_1 12 rfl rfl)
theorem dX7_lowest_37 : decode cX7_lowest 37 = .ok (.goto 4, 3) := dk_167 0 4 (dk_at dksX7_lowest_1 13 rfl rfl)
theorem dX7_lowest_40 : decode cX7_lowest 40 = .ok (.lload_n 2, 1) := dk_32 (dk_at dksX7_lowest_1 16 rfl rfl)
theorem dX7_lowest_41 : decode cX7_lowest 41 = .ok (.lload 5, 2) := dk_22 5 (dk_at dksX7_lowest_1 17 rfl rfl)
theorem dX7_lowest_43 : decode cX7_lowest 43 = .ok (.ldiv, 1) := dk_109 (dk_at dksX7_lowest_1 19 rfl rfl)
theorem dX7_lowest_44 : decode cX7_lowest 44 = .ok (.lreturn, 1) := dk_173 (dk_at dksX7_lowest_1 20 rfl rfl)
abbrev cX7_mean : ByteArray := prog_11_method_66_code
def yX7_mean : MethodName := ⟨RX7, "mean", "(IIII)J"⟩
def dkwX7_mean_2 : List UInt8 := [182, 0, 232, 167, 0, 6, 20, 0, 236, 173]
abbrev dktX7_mean_2 : List UInt8 := dkwX7_mean_2 ++ []
def dkwX7_mean_1 : List UInt8 := [153, 0, 28, 21, 4, 133, 9, 10, 184, 0, 49, 153, 0, 17, 42, 27, 28, 29, 16, 252, 21, 4]
abbrev dktX7_mean_1 : List UInt8 := dkwX7_mean_1 ++ dktX7_mean_2
def dkwX7_mean_0 : List UInt8 := [27, 133, 9, 20, 0, 230, 184, 0, 49, 153, 0, 43, 42, 28, 182, 0, 180, 153, 0, 35, 29, 184, 0, 213]
abbrev dktX7_mean_0 : List UInt8 := dkwX7_mean_0 ++ dktX7_mean_1
theorem dksX7_mean_0 : cX7_mean.data.toList.drop 0 = dktX7_mean_0 := by decide +kernel
theorem dksX7_mean_1 : cX7_mean.data.toList.drop 24 = dktX7_mean_1 := dk_seg dksX7_mean_0 24 rfl rfl
theorem dksX7_mean_2 : cX7_mean.data.toList.drop 46 = dktX7_mean_2 := dk_seg dksX7_mean_1 22 rfl rfl
theorem dX7_mean_0 : decode cX7_mean 0 = .ok (.iload_n 1, 1) := dk_27 (dk_at dksX7_mean_0 0 rfl rfl)
theorem dX7_mean_1 : decode cX7_mean 1 = .ok (.i2l, 1) := dk_133 (dk_at dksX7_mean_0 1 rfl rfl)
theorem dX7_mean_2 : decode cX7_mean 2 = .ok (.lconst 0, 1) := dk_9 (dk_at dksX7_mean_0 2 rfl rfl)
theorem dX7_mean_3 : decode cX7_mean 3 = .ok (.ldc2_w 230, 3) := dk_20 0 230 (dk_at dksX7_mean_0 3 rfl rfl)
theorem dX7_mean_6 : decode cX7_mean 6 = .ok (.invokestatic 49, 3) := dk_184 0 49 (dk_at dksX7_mean_0 6 rfl rfl)
theorem dX7_mean_9 : decode cX7_mean 9 = .ok (.ifCond .eq 43, 3) := dk_153 0 43 (dk_at dksX7_mean_0 9 rfl rfl)
theorem dX7_mean_12 : decode cX7_mean 12 = .ok (.aload_n 0, 1) := dk_42 (dk_at dksX7_mean_0 12 rfl rfl)
theorem dX7_mean_13 : decode cX7_mean 13 = .ok (.iload_n 2, 1) := dk_28 (dk_at dksX7_mean_0 13 rfl rfl)
theorem dX7_mean_14 : decode cX7_mean 14 = .ok (.invokevirtual 180, 3) := dk_182 0 180 (dk_at dksX7_mean_0 14 rfl rfl)
theorem dX7_mean_17 : decode cX7_mean 17 = .ok (.ifCond .eq 35, 3) := dk_153 0 35 (dk_at dksX7_mean_0 17 rfl rfl)
theorem dX7_mean_20 : decode cX7_mean 20 = .ok (.iload_n 3, 1) := dk_29 (dk_at dksX7_mean_0 20 rfl rfl)
theorem dX7_mean_21 : decode cX7_mean 21 = .ok (.invokestatic 213, 3) := dk_184 0 213 (dk_at dksX7_mean_0 21 rfl rfl)
theorem dX7_mean_24 : decode cX7_mean 24 = .ok (.ifCond .eq 28, 3) := dk_153 0 28 (dk_at dksX7_mean_1 0 rfl rfl)
theorem dX7_mean_27 : decode cX7_mean 27 = .ok (.iload 4, 2) := dk_21 4 (dk_at dksX7_mean_1 3 rfl rfl)
theorem dX7_mean_29 : decode cX7_mean 29 = .ok (.i2l, 1) := dk_133 (dk_at dksX7_mean_1 5 rfl rfl)
theorem dX7_mean_30 : decode cX7_mean 30 = .ok (.lconst 0, 1) := dk_9 (dk_at dksX7_mean_1 6 rfl rfl)
theorem dX7_mean_31 : decode cX7_mean 31 = .ok (.lconst 1, 1) := dk_10 (dk_at dksX7_mean_1 7 rfl rfl)
theorem dX7_mean_32 : decode cX7_mean 32 = .ok (.invokestatic 49, 3) := dk_184 0 49 (dk_at dksX7_mean_1 8 rfl rfl)
theorem dX7_mean_35 : decode cX7_mean 35 = .ok (.ifCond .eq 17, 3) := dk_153 0 17 (dk_at dksX7_mean_1 11 rfl rfl)
theorem dX7_mean_38 : decode cX7_mean 38 = .ok (.aload_n 0, 1) := dk_42 (dk_at dksX7_mean_1 14 rfl rfl)
theorem dX7_mean_39 : decode cX7_mean 39 = .ok (.iload_n 1, 1) := dk_27 (dk_at dksX7_mean_1 15 rfl rfl)
theorem dX7_mean_40 : decode cX7_mean 40 = .ok (.iload_n 2, 1) := dk_28 (dk_at dksX7_mean_1 16 rfl rfl)
theorem dX7_mean_41 : decode cX7_mean 41 = .ok (.iload_n 3, 1) := dk_29 (dk_at dksX7_mean_1 17 rfl rfl)
theorem dX7_mean_42 : decode cX7_mean 42 = .ok (.bipush (-4), 2) := dk_16 252 (dk_at dksX7_mean_1 18 rfl rfl)
theorem dX7_mean_44 : decode cX7_mean 44 = .ok (.iload 4, 2) := dk_21 4 (dk_at dksX7_mean_1 20 rfl rfl)
theorem dX7_mean_46 : decode cX7_mean 46 = .ok (.invokevirtual 232, 3) := dk_182 0 232 (dk_at dksX7_mean_2 0 rfl rfl)
theorem dX7_mean_49 : decode cX7_mean 49 = .ok (.goto 6, 3) := dk_167 0 6 (dk_at dksX7_mean_2 3 rfl rfl)
theorem dX7_mean_52 : decode cX7_mean 52 = .ok (.ldc2_w 236, 3) := dk_20 0 236 (dk_at dksX7_mean_2 6 rfl rfl)
theorem dX7_mean_55 : decode cX7_mean 55 = .ok (.lreturn, 1) := dk_173 (dk_at dksX7_mean_2 9 rfl rfl)
abbrev cX7_see : ByteArray := prog_11_method_67_code
def yX7_see : MethodName := ⟨RX7, "see", "(III)I"⟩
def dkwX7_see_4 : List UInt8 := [29, 79, 42, 89, 180, 0, 132, 4, 96, 181, 0, 132, 42, 180, 0, 132, 172]
abbrev dktX7_see_4 : List UInt8 := dkwX7_see_4 ++ []
def dkwX7_see_3 : List UInt8 := [79, 42, 180, 0, 28, 6, 42, 180, 0, 132, 104, 5, 96, 29, 16, 9, 160, 0, 8, 16, 252, 167, 0, 4]
abbrev dktX7_see_3 : List UInt8 := dkwX7_see_3 ++ dktX7_see_4
def dkwX7_see_2 : List UInt8 := [180, 0, 28, 6, 42, 180, 0, 132, 104, 27, 79, 42, 180, 0, 28, 6, 42, 180, 0, 132, 104, 4, 96, 28]
abbrev dktX7_see_2 : List UInt8 := dkwX7_see_2 ++ dktX7_see_3
def dkwX7_see_1 : List UInt8 := [154, 0, 11, 29, 16, 9, 159, 0, 5, 2, 172, 42, 180, 0, 132, 16, 6, 160, 0, 6, 16, 253, 172, 42]
abbrev dktX7_see_1 : List UInt8 := dkwX7_see_1 ++ dktX7_see_2
def dkwX7_see_0 : List UInt8 := [42, 27, 182, 0, 180, 153, 0, 28, 28, 184, 0, 213, 153, 0, 21, 29, 133, 9, 20, 0, 115, 184, 0, 49]
abbrev dktX7_see_0 : List UInt8 := dkwX7_see_0 ++ dktX7_see_1
theorem dksX7_see_0 : cX7_see.data.toList.drop 0 = dktX7_see_0 := by decide +kernel
theorem dksX7_see_1 : cX7_see.data.toList.drop 24 = dktX7_see_1 := dk_seg dksX7_see_0 24 rfl rfl
theorem dksX7_see_2 : cX7_see.data.toList.drop 48 = dktX7_see_2 := dk_seg dksX7_see_1 24 rfl rfl
theorem dksX7_see_3 : cX7_see.data.toList.drop 72 = dktX7_see_3 := dk_seg dksX7_see_2 24 rfl rfl
theorem dksX7_see_4 : cX7_see.data.toList.drop 96 = dktX7_see_4 := dk_seg dksX7_see_3 24 rfl rfl
theorem dX7_see_0 : decode cX7_see 0 = .ok (.aload_n 0, 1) := dk_42 (dk_at dksX7_see_0 0 rfl rfl)
theorem dX7_see_1 : decode cX7_see 1 = .ok (.iload_n 1, 1) := dk_27 (dk_at dksX7_see_0 1 rfl rfl)
theorem dX7_see_2 : decode cX7_see 2 = .ok (.invokevirtual 180, 3) := dk_182 0 180 (dk_at dksX7_see_0 2 rfl rfl)
theorem dX7_see_5 : decode cX7_see 5 = .ok (.ifCond .eq 28, 3) := dk_153 0 28 (dk_at dksX7_see_0 5 rfl rfl)
theorem dX7_see_8 : decode cX7_see 8 = .ok (.iload_n 2, 1) := dk_28 (dk_at dksX7_see_0 8 rfl rfl)
theorem dX7_see_9 : decode cX7_see 9 = .ok (.invokestatic 213, 3) := dk_184 0 213 (dk_at dksX7_see_0 9 rfl rfl)
theorem dX7_see_12 : decode cX7_see 12 = .ok (.ifCond .eq 21, 3) := dk_153 0 21 (dk_at dksX7_see_0 12 rfl rfl)
theorem dX7_see_15 : decode cX7_see 15 = .ok (.iload_n 3, 1) := dk_29 (dk_at dksX7_see_0 15 rfl rfl)
theorem dX7_see_16 : decode cX7_see 16 = .ok (.i2l, 1) := dk_133 (dk_at dksX7_see_0 16 rfl rfl)
theorem dX7_see_17 : decode cX7_see 17 = .ok (.lconst 0, 1) := dk_9 (dk_at dksX7_see_0 17 rfl rfl)
theorem dX7_see_18 : decode cX7_see 18 = .ok (.ldc2_w 115, 3) := dk_20 0 115 (dk_at dksX7_see_0 18 rfl rfl)
theorem dX7_see_21 : decode cX7_see 21 = .ok (.invokestatic 49, 3) := dk_184 0 49 (dk_at dksX7_see_0 21 rfl rfl)
theorem dX7_see_24 : decode cX7_see 24 = .ok (.ifCond .ne 11, 3) := dk_154 0 11 (dk_at dksX7_see_1 0 rfl rfl)
theorem dX7_see_27 : decode cX7_see 27 = .ok (.iload_n 3, 1) := dk_29 (dk_at dksX7_see_1 3 rfl rfl)
theorem dX7_see_28 : decode cX7_see 28 = .ok (.bipush 9, 2) := dk_16 9 (dk_at dksX7_see_1 4 rfl rfl)
theorem dX7_see_30 : decode cX7_see 30 = .ok (.if_icmp .eq 5, 3) := dk_159 0 5 (dk_at dksX7_see_1 6 rfl rfl)
theorem dX7_see_33 : decode cX7_see 33 = .ok (.iconst (-1), 1) := dk_2 (dk_at dksX7_see_1 9 rfl rfl)
theorem dX7_see_34 : decode cX7_see 34 = .ok (.ireturn, 1) := dk_172 (dk_at dksX7_see_1 10 rfl rfl)
theorem dX7_see_35 : decode cX7_see 35 = .ok (.aload_n 0, 1) := dk_42 (dk_at dksX7_see_1 11 rfl rfl)
theorem dX7_see_36 : decode cX7_see 36 = .ok (.getfield 132, 3) := dk_180 0 132 (dk_at dksX7_see_1 12 rfl rfl)
theorem dX7_see_39 : decode cX7_see 39 = .ok (.bipush 6, 2) := dk_16 6 (dk_at dksX7_see_1 15 rfl rfl)
theorem dX7_see_41 : decode cX7_see 41 = .ok (.if_icmp .ne 6, 3) := dk_160 0 6 (dk_at dksX7_see_1 17 rfl rfl)
theorem dX7_see_44 : decode cX7_see 44 = .ok (.bipush (-3), 2) := dk_16 253 (dk_at dksX7_see_1 20 rfl rfl)
theorem dX7_see_46 : decode cX7_see 46 = .ok (.ireturn, 1) := dk_172 (dk_at dksX7_see_1 22 rfl rfl)
theorem dX7_see_47 : decode cX7_see 47 = .ok (.aload_n 0, 1) := dk_42 (dk_at dksX7_see_1 23 rfl rfl)
theorem dX7_see_48 : decode cX7_see 48 = .ok (.getfield 28, 3) := dk_180 0 28 (dk_at dksX7_see_2 0 rfl rfl)
theorem dX7_see_51 : decode cX7_see 51 = .ok (.iconst 3, 1) := dk_6 (dk_at dksX7_see_2 3 rfl rfl)
theorem dX7_see_52 : decode cX7_see 52 = .ok (.aload_n 0, 1) := dk_42 (dk_at dksX7_see_2 4 rfl rfl)
theorem dX7_see_53 : decode cX7_see 53 = .ok (.getfield 132, 3) := dk_180 0 132 (dk_at dksX7_see_2 5 rfl rfl)
theorem dX7_see_56 : decode cX7_see 56 = .ok (.imul, 1) := dk_104 (dk_at dksX7_see_2 8 rfl rfl)
theorem dX7_see_57 : decode cX7_see 57 = .ok (.iload_n 1, 1) := dk_27 (dk_at dksX7_see_2 9 rfl rfl)
theorem dX7_see_58 : decode cX7_see 58 = .ok (.iastore, 1) := dk_79 (dk_at dksX7_see_2 10 rfl rfl)
theorem dX7_see_59 : decode cX7_see 59 = .ok (.aload_n 0, 1) := dk_42 (dk_at dksX7_see_2 11 rfl rfl)
theorem dX7_see_60 : decode cX7_see 60 = .ok (.getfield 28, 3) := dk_180 0 28 (dk_at dksX7_see_2 12 rfl rfl)
theorem dX7_see_63 : decode cX7_see 63 = .ok (.iconst 3, 1) := dk_6 (dk_at dksX7_see_2 15 rfl rfl)
theorem dX7_see_64 : decode cX7_see 64 = .ok (.aload_n 0, 1) := dk_42 (dk_at dksX7_see_2 16 rfl rfl)
theorem dX7_see_65 : decode cX7_see 65 = .ok (.getfield 132, 3) := dk_180 0 132 (dk_at dksX7_see_2 17 rfl rfl)
theorem dX7_see_68 : decode cX7_see 68 = .ok (.imul, 1) := dk_104 (dk_at dksX7_see_2 20 rfl rfl)
theorem dX7_see_69 : decode cX7_see 69 = .ok (.iconst 1, 1) := dk_4 (dk_at dksX7_see_2 21 rfl rfl)
theorem dX7_see_70 : decode cX7_see 70 = .ok (.iadd, 1) := dk_96 (dk_at dksX7_see_2 22 rfl rfl)
theorem dX7_see_71 : decode cX7_see 71 = .ok (.iload_n 2, 1) := dk_28 (dk_at dksX7_see_2 23 rfl rfl)
theorem dX7_see_72 : decode cX7_see 72 = .ok (.iastore, 1) := dk_79 (dk_at dksX7_see_3 0 rfl rfl)
theorem dX7_see_73 : decode cX7_see 73 = .ok (.aload_n 0, 1) := dk_42 (dk_at dksX7_see_3 1 rfl rfl)
theorem dX7_see_74 : decode cX7_see 74 = .ok (.getfield 28, 3) := dk_180 0 28 (dk_at dksX7_see_3 2 rfl rfl)
theorem dX7_see_77 : decode cX7_see 77 = .ok (.iconst 3, 1) := dk_6 (dk_at dksX7_see_3 5 rfl rfl)
theorem dX7_see_78 : decode cX7_see 78 = .ok (.aload_n 0, 1) := dk_42 (dk_at dksX7_see_3 6 rfl rfl)
theorem dX7_see_79 : decode cX7_see 79 = .ok (.getfield 132, 3) := dk_180 0 132 (dk_at dksX7_see_3 7 rfl rfl)
theorem dX7_see_82 : decode cX7_see 82 = .ok (.imul, 1) := dk_104 (dk_at dksX7_see_3 10 rfl rfl)
theorem dX7_see_83 : decode cX7_see 83 = .ok (.iconst 2, 1) := dk_5 (dk_at dksX7_see_3 11 rfl rfl)
theorem dX7_see_84 : decode cX7_see 84 = .ok (.iadd, 1) := dk_96 (dk_at dksX7_see_3 12 rfl rfl)
theorem dX7_see_85 : decode cX7_see 85 = .ok (.iload_n 3, 1) := dk_29 (dk_at dksX7_see_3 13 rfl rfl)
theorem dX7_see_86 : decode cX7_see 86 = .ok (.bipush 9, 2) := dk_16 9 (dk_at dksX7_see_3 14 rfl rfl)
theorem dX7_see_88 : decode cX7_see 88 = .ok (.if_icmp .ne 8, 3) := dk_160 0 8 (dk_at dksX7_see_3 16 rfl rfl)
theorem dX7_see_91 : decode cX7_see 91 = .ok (.bipush (-4), 2) := dk_16 252 (dk_at dksX7_see_3 19 rfl rfl)
theorem dX7_see_93 : decode cX7_see 93 = .ok (.goto 4, 3) := dk_167 0 4 (dk_at dksX7_see_3 21 rfl rfl)
theorem dX7_see_96 : decode cX7_see 96 = .ok (.iload_n 3, 1) := dk_29 (dk_at dksX7_see_4 0 rfl rfl)
theorem dX7_see_97 : decode cX7_see 97 = .ok (.iastore, 1) := dk_79 (dk_at dksX7_see_4 1 rfl rfl)
theorem dX7_see_98 : decode cX7_see 98 = .ok (.aload_n 0, 1) := dk_42 (dk_at dksX7_see_4 2 rfl rfl)
theorem dX7_see_99 : decode cX7_see 99 = .ok (.dup, 1) := dk_89 (dk_at dksX7_see_4 3 rfl rfl)
theorem dX7_see_100 : decode cX7_see 100 = .ok (.getfield 132, 3) := dk_180 0 132 (dk_at dksX7_see_4 4 rfl rfl)
theorem dX7_see_103 : decode cX7_see 103 = .ok (.iconst 1, 1) := dk_4 (dk_at dksX7_see_4 7 rfl rfl)
theorem dX7_see_104 : decode cX7_see 104 = .ok (.iadd, 1) := dk_96 (dk_at dksX7_see_4 8 rfl rfl)
theorem dX7_see_105 : decode cX7_see 105 = .ok (.putfield 132, 3) := dk_181 0 132 (dk_at dksX7_see_4 9 rfl rfl)
theorem dX7_see_108 : decode cX7_see 108 = .ok (.aload_n 0, 1) := dk_42 (dk_at dksX7_see_4 12 rfl rfl)
theorem dX7_see_109 : decode cX7_see 109 = .ok (.getfield 132, 3) := dk_180 0 132 (dk_at dksX7_see_4 13 rfl rfl)
theorem dX7_see_112 : decode cX7_see 112 = .ok (.ireturn, 1) := dk_172 (dk_at dksX7_see_4 16 rfl rfl)
abbrev cX7_forget : ByteArray := prog_11_method_68_code
def yX7_forget : MethodName := ⟨RX7, "forget", "(I)I"⟩
def dkwX7_forget_1 : List UInt8 := [181, 0, 132, 28, 172]
abbrev dktX7_forget_1 : List UInt8 := dkwX7_forget_1 ++ []
def dkwX7_forget_0 : List UInt8 := [27, 133, 9, 42, 180, 0, 132, 133, 184, 0, 49, 154, 0, 5, 2, 172, 42, 180, 0, 132, 61, 42, 27]
abbrev dktX7_forget_0 : List UInt8 := dkwX7_forget_0 ++ dktX7_forget_1
theorem dksX7_forget_0 : cX7_forget.data.toList.drop 0 = dktX7_forget_0 := by decide +kernel
theorem dksX7_forget_1 : cX7_forget.data.toList.drop 23 = dktX7_forget_1 := dk_seg dksX7_forget_0 23 rfl rfl
theorem dX7_forget_0 : decode cX7_forget 0 = .ok (.iload_n 1, 1) := dk_27 (dk_at dksX7_forget_0 0 rfl rfl)
theorem dX7_forget_1 : decode cX7_forget 1 = .ok (.i2l, 1) := dk_133 (dk_at dksX7_forget_0 1 rfl rfl)
theorem dX7_forget_2 : decode cX7_forget 2 = .ok (.lconst 0, 1) := dk_9 (dk_at dksX7_forget_0 2 rfl rfl)
theorem dX7_forget_3 : decode cX7_forget 3 = .ok (.aload_n 0, 1) := dk_42 (dk_at dksX7_forget_0 3 rfl rfl)
theorem dX7_forget_4 : decode cX7_forget 4 = .ok (.getfield 132, 3) := dk_180 0 132 (dk_at dksX7_forget_0 4 rfl rfl)
theorem dX7_forget_7 : decode cX7_forget 7 = .ok (.i2l, 1) := dk_133 (dk_at dksX7_forget_0 7 rfl rfl)
theorem dX7_forget_8 : decode cX7_forget 8 = .ok (.invokestatic 49, 3) := dk_184 0 49 (dk_at dksX7_forget_0 8 rfl rfl)
theorem dX7_forget_11 : decode cX7_forget 11 = .ok (.ifCond .ne 5, 3) := dk_154 0 5 (dk_at dksX7_forget_0 11 rfl rfl)
theorem dX7_forget_14 : decode cX7_forget 14 = .ok (.iconst (-1), 1) := dk_2 (dk_at dksX7_forget_0 14 rfl rfl)
theorem dX7_forget_15 : decode cX7_forget 15 = .ok (.ireturn, 1) := dk_172 (dk_at dksX7_forget_0 15 rfl rfl)
theorem dX7_forget_16 : decode cX7_forget 16 = .ok (.aload_n 0, 1) := dk_42 (dk_at dksX7_forget_0 16 rfl rfl)
theorem dX7_forget_17 : decode cX7_forget 17 = .ok (.getfield 132, 3) := dk_180 0 132 (dk_at dksX7_forget_0 17 rfl rfl)
theorem dX7_forget_20 : decode cX7_forget 20 = .ok (.istore_n 2, 1) := dk_61 (dk_at dksX7_forget_0 20 rfl rfl)
theorem dX7_forget_21 : decode cX7_forget 21 = .ok (.aload_n 0, 1) := dk_42 (dk_at dksX7_forget_0 21 rfl rfl)
theorem dX7_forget_22 : decode cX7_forget 22 = .ok (.iload_n 1, 1) := dk_27 (dk_at dksX7_forget_0 22 rfl rfl)
theorem dX7_forget_23 : decode cX7_forget 23 = .ok (.putfield 132, 3) := dk_181 0 132 (dk_at dksX7_forget_1 0 rfl rfl)
theorem dX7_forget_26 : decode cX7_forget 26 = .ok (.iload_n 2, 1) := dk_28 (dk_at dksX7_forget_1 3 rfl rfl)
theorem dX7_forget_27 : decode cX7_forget 27 = .ok (.ireturn, 1) := dk_172 (dk_at dksX7_forget_1 4 rfl rfl)
abbrev cX7_kinds : ByteArray := prog_11_method_70_code
def yX7_kinds : MethodName := ⟨RX7, "kinds", "(I)I"⟩
def dkwX7_kinds_2 : List UInt8 := [153, 0, 9, 4, 29, 120, 167, 0, 4, 3, 128, 61, 132, 3, 1, 167, 255, 217, 28, 172]
abbrev dktX7_kinds_2 : List UInt8 := dkwX7_kinds_2 ++ []
def dkwX7_kinds_1 : List UInt8 := [162, 0, 40, 42, 180, 0, 7, 17, 0, 182, 27, 96, 29, 79, 28, 42, 17, 0, 164, 182, 0, 238]
abbrev dktX7_kinds_1 : List UInt8 := dkwX7_kinds_1 ++ dktX7_kinds_2
def dkwX7_kinds_0 : List UInt8 := [42, 27, 182, 0, 180, 154, 0, 5, 2, 172, 3, 61, 42, 3, 17, 0, 164, 182, 0, 218, 3, 62, 29, 7]
abbrev dktX7_kinds_0 : List UInt8 := dkwX7_kinds_0 ++ dktX7_kinds_1
theorem dksX7_kinds_0 : cX7_kinds.data.toList.drop 0 = dktX7_kinds_0 := by decide +kernel
theorem dksX7_kinds_1 : cX7_kinds.data.toList.drop 24 = dktX7_kinds_1 := dk_seg dksX7_kinds_0 24 rfl rfl
theorem dksX7_kinds_2 : cX7_kinds.data.toList.drop 46 = dktX7_kinds_2 := dk_seg dksX7_kinds_1 22 rfl rfl
theorem dX7_kinds_0 : decode cX7_kinds 0 = .ok (.aload_n 0, 1) := dk_42 (dk_at dksX7_kinds_0 0 rfl rfl)
theorem dX7_kinds_1 : decode cX7_kinds 1 = .ok (.iload_n 1, 1) := dk_27 (dk_at dksX7_kinds_0 1 rfl rfl)
theorem dX7_kinds_2 : decode cX7_kinds 2 = .ok (.invokevirtual 180, 3) := dk_182 0 180 (dk_at dksX7_kinds_0 2 rfl rfl)
theorem dX7_kinds_5 : decode cX7_kinds 5 = .ok (.ifCond .ne 5, 3) := dk_154 0 5 (dk_at dksX7_kinds_0 5 rfl rfl)
theorem dX7_kinds_8 : decode cX7_kinds 8 = .ok (.iconst (-1), 1) := dk_2 (dk_at dksX7_kinds_0 8 rfl rfl)
theorem dX7_kinds_9 : decode cX7_kinds 9 = .ok (.ireturn, 1) := dk_172 (dk_at dksX7_kinds_0 9 rfl rfl)
theorem dX7_kinds_10 : decode cX7_kinds 10 = .ok (.iconst 0, 1) := dk_3 (dk_at dksX7_kinds_0 10 rfl rfl)
theorem dX7_kinds_11 : decode cX7_kinds 11 = .ok (.istore_n 2, 1) := dk_61 (dk_at dksX7_kinds_0 11 rfl rfl)
theorem dX7_kinds_12 : decode cX7_kinds 12 = .ok (.aload_n 0, 1) := dk_42 (dk_at dksX7_kinds_0 12 rfl rfl)
theorem dX7_kinds_13 : decode cX7_kinds 13 = .ok (.iconst 0, 1) := dk_3 (dk_at dksX7_kinds_0 13 rfl rfl)
theorem dX7_kinds_14 : decode cX7_kinds 14 = .ok (.sipush 164, 3) := dk_17 0 164 (dk_at dksX7_kinds_0 14 rfl rfl)
theorem dX7_kinds_17 : decode cX7_kinds 17 = .ok (.invokevirtual 218, 3) := dk_182 0 218 (dk_at dksX7_kinds_0 17 rfl rfl)
theorem dX7_kinds_20 : decode cX7_kinds 20 = .ok (.iconst 0, 1) := dk_3 (dk_at dksX7_kinds_0 20 rfl rfl)
theorem dX7_kinds_21 : decode cX7_kinds 21 = .ok (.istore_n 3, 1) := dk_62 (dk_at dksX7_kinds_0 21 rfl rfl)
theorem dX7_kinds_22 : decode cX7_kinds 22 = .ok (.iload_n 3, 1) := dk_29 (dk_at dksX7_kinds_0 22 rfl rfl)
theorem dX7_kinds_23 : decode cX7_kinds 23 = .ok (.iconst 4, 1) := dk_7 (dk_at dksX7_kinds_0 23 rfl rfl)
theorem dX7_kinds_24 : decode cX7_kinds 24 = .ok (.if_icmp .ge 40, 3) := dk_162 0 40 (dk_at dksX7_kinds_1 0 rfl rfl)
theorem dX7_kinds_27 : decode cX7_kinds 27 = .ok (.aload_n 0, 1) := dk_42 (dk_at dksX7_kinds_1 3 rfl rfl)
theorem dX7_kinds_28 : decode cX7_kinds 28 = .ok (.getfield 7, 3) := dk_180 0 7 (dk_at dksX7_kinds_1 4 rfl rfl)
theorem dX7_kinds_31 : decode cX7_kinds 31 = .ok (.sipush 182, 3) := dk_17 0 182 (dk_at dksX7_kinds_1 7 rfl rfl)
theorem dX7_kinds_34 : decode cX7_kinds 34 = .ok (.iload_n 1, 1) := dk_27 (dk_at dksX7_kinds_1 10 rfl rfl)
theorem dX7_kinds_35 : decode cX7_kinds 35 = .ok (.iadd, 1) := dk_96 (dk_at dksX7_kinds_1 11 rfl rfl)
theorem dX7_kinds_36 : decode cX7_kinds 36 = .ok (.iload_n 3, 1) := dk_29 (dk_at dksX7_kinds_1 12 rfl rfl)
theorem dX7_kinds_37 : decode cX7_kinds 37 = .ok (.iastore, 1) := dk_79 (dk_at dksX7_kinds_1 13 rfl rfl)
theorem dX7_kinds_38 : decode cX7_kinds 38 = .ok (.iload_n 2, 1) := dk_28 (dk_at dksX7_kinds_1 14 rfl rfl)
theorem dX7_kinds_39 : decode cX7_kinds 39 = .ok (.aload_n 0, 1) := dk_42 (dk_at dksX7_kinds_1 15 rfl rfl)
theorem dX7_kinds_40 : decode cX7_kinds 40 = .ok (.sipush 164, 3) := dk_17 0 164 (dk_at dksX7_kinds_1 16 rfl rfl)
theorem dX7_kinds_43 : decode cX7_kinds 43 = .ok (.invokevirtual 238, 3) := dk_182 0 238 (dk_at dksX7_kinds_1 19 rfl rfl)
theorem dX7_kinds_46 : decode cX7_kinds 46 = .ok (.ifCond .eq 9, 3) := dk_153 0 9 (dk_at dksX7_kinds_2 0 rfl rfl)
theorem dX7_kinds_49 : decode cX7_kinds 49 = .ok (.iconst 1, 1) := dk_4 (dk_at dksX7_kinds_2 3 rfl rfl)
theorem dX7_kinds_50 : decode cX7_kinds 50 = .ok (.iload_n 3, 1) := dk_29 (dk_at dksX7_kinds_2 4 rfl rfl)
theorem dX7_kinds_51 : decode cX7_kinds 51 = .ok (.ishl, 1) := dk_120 (dk_at dksX7_kinds_2 5 rfl rfl)
theorem dX7_kinds_52 : decode cX7_kinds 52 = .ok (.goto 4, 3) := dk_167 0 4 (dk_at dksX7_kinds_2 6 rfl rfl)
theorem dX7_kinds_55 : decode cX7_kinds 55 = .ok (.iconst 0, 1) := dk_3 (dk_at dksX7_kinds_2 9 rfl rfl)
theorem dX7_kinds_56 : decode cX7_kinds 56 = .ok (.ior, 1) := dk_128 (dk_at dksX7_kinds_2 10 rfl rfl)
theorem dX7_kinds_57 : decode cX7_kinds 57 = .ok (.istore_n 2, 1) := dk_61 (dk_at dksX7_kinds_2 11 rfl rfl)
theorem dX7_kinds_58 : decode cX7_kinds 58 = .ok (.iinc 3 1, 3) := dk_132 3 1 (dk_at dksX7_kinds_2 12 rfl rfl)
theorem dX7_kinds_61 : decode cX7_kinds 61 = .ok (.goto (-39), 3) := dk_167 255 217 (dk_at dksX7_kinds_2 15 rfl rfl)
theorem dX7_kinds_64 : decode cX7_kinds 64 = .ok (.iload_n 2, 1) := dk_28 (dk_at dksX7_kinds_2 18 rfl rfl)
theorem dX7_kinds_65 : decode cX7_kinds 65 = .ok (.ireturn, 1) := dk_172 (dk_at dksX7_kinds_2 19 rfl rfl)
abbrev cX7_isAsSeen : ByteArray := prog_11_method_69_code
def yX7_isAsSeen : MethodName := ⟨RX7, "isAsSeen", "(I)Z"⟩
def dkwX7_isAsSeen_3 : List UInt8 := [6, 29, 104, 5, 96, 46, 160, 0, 7, 4, 167, 0, 4, 3, 61, 132, 3, 1, 167, 255, 170, 28, 172]
abbrev dktX7_isAsSeen_3 : List UInt8 := dkwX7_isAsSeen_3 ++ []
def dkwX7_isAsSeen_2 : List UInt8 := [4, 96, 46, 3, 182, 0, 164, 28, 153, 0, 29, 21, 4, 153, 0, 24, 42, 180, 0, 145, 42, 180, 0, 28]
abbrev dktX7_isAsSeen_2 : List UInt8 := dkwX7_isAsSeen_2 ++ dktX7_isAsSeen_3
def dkwX7_isAsSeen_1 : List UInt8 := [54, 4, 21, 4, 153, 0, 27, 42, 27, 42, 180, 0, 28, 6, 29, 104, 46, 42, 180, 0, 28, 6, 29, 104]
abbrev dktX7_isAsSeen_1 : List UInt8 := dkwX7_isAsSeen_1 ++ dktX7_isAsSeen_2
def dkwX7_isAsSeen_0 : List UInt8 := [4, 61, 3, 62, 29, 42, 180, 0, 132, 162, 0, 84, 42, 42, 180, 0, 28, 6, 29, 104, 46, 182, 0, 180]
abbrev dktX7_isAsSeen_0 : List UInt8 := dkwX7_isAsSeen_0 ++ dktX7_isAsSeen_1
theorem dksX7_isAsSeen_0 : cX7_isAsSeen.data.toList.drop 0 = dktX7_isAsSeen_0 := by decide +kernel
theorem dksX7_isAsSeen_1 : cX7_isAsSeen.data.toList.drop 24 = dktX7_isAsSeen_1 := dk_seg dksX7_isAsSeen_0 24 rfl rfl
theorem dksX7_isAsSeen_2 : cX7_isAsSeen.data.toList.drop 48 = dktX7_isAsSeen_2 := dk_seg dksX7_isAsSeen_1 24 rfl rfl
theorem dksX7_isAsSeen_3 : cX7_isAsSeen.data.toList.drop 72 = dktX7_isAsSeen_3 := dk_seg dksX7_isAsSeen_2 24 rfl rfl
theorem dX7_isAsSeen_0 : decode cX7_isAsSeen 0 = .ok (.iconst 1, 1) := dk_4 (dk_at dksX7_isAsSeen_0 0 rfl rfl)
theorem dX7_isAsSeen_1 : decode cX7_isAsSeen 1 = .ok (.istore_n 2, 1) := dk_61 (dk_at dksX7_isAsSeen_0 1 rfl rfl)
theorem dX7_isAsSeen_2 : decode cX7_isAsSeen 2 = .ok (.iconst 0, 1) := dk_3 (dk_at dksX7_isAsSeen_0 2 rfl rfl)
theorem dX7_isAsSeen_3 : decode cX7_isAsSeen 3 = .ok (.istore_n 3, 1) := dk_62 (dk_at dksX7_isAsSeen_0 3 rfl rfl)
theorem dX7_isAsSeen_4 : decode cX7_isAsSeen 4 = .ok (.iload_n 3, 1) := dk_29 (dk_at dksX7_isAsSeen_0 4 rfl rfl)
theorem dX7_isAsSeen_5 : decode cX7_isAsSeen 5 = .ok (.aload_n 0, 1) := dk_42 (dk_at dksX7_isAsSeen_0 5 rfl rfl)
theorem dX7_isAsSeen_6 : decode cX7_isAsSeen 6 = .ok (.getfield 132, 3) := dk_180 0 132 (dk_at dksX7_isAsSeen_0 6 rfl rfl)
theorem dX7_isAsSeen_9 : decode cX7_isAsSeen 9 = .ok (.if_icmp .ge 84, 3) := dk_162 0 84 (dk_at dksX7_isAsSeen_0 9 rfl rfl)
theorem dX7_isAsSeen_12 : decode cX7_isAsSeen 12 = .ok (.aload_n 0, 1) := dk_42 (dk_at dksX7_isAsSeen_0 12 rfl rfl)
theorem dX7_isAsSeen_13 : decode cX7_isAsSeen 13 = .ok (.aload_n 0, 1) := dk_42 (dk_at dksX7_isAsSeen_0 13 rfl rfl)
theorem dX7_isAsSeen_14 : decode cX7_isAsSeen 14 = .ok (.getfield 28, 3) := dk_180 0 28 (dk_at dksX7_isAsSeen_0 14 rfl rfl)
theorem dX7_isAsSeen_17 : decode cX7_isAsSeen 17 = .ok (.iconst 3, 1) := dk_6 (dk_at dksX7_isAsSeen_0 17 rfl rfl)
theorem dX7_isAsSeen_18 : decode cX7_isAsSeen 18 = .ok (.iload_n 3, 1) := dk_29 (dk_at dksX7_isAsSeen_0 18 rfl rfl)
theorem dX7_isAsSeen_19 : decode cX7_isAsSeen 19 = .ok (.imul, 1) := dk_104 (dk_at dksX7_isAsSeen_0 19 rfl rfl)
theorem dX7_isAsSeen_20 : decode cX7_isAsSeen 20 = .ok (.iaload, 1) := dk_46 (dk_at dksX7_isAsSeen_0 20 rfl rfl)
theorem dX7_isAsSeen_21 : decode cX7_isAsSeen 21 = .ok (.invokevirtual 180, 3) := dk_182 0 180 (dk_at dksX7_isAsSeen_0 21 rfl rfl)
theorem dX7_isAsSeen_24 : decode cX7_isAsSeen 24 = .ok (.istore 4, 2) := dk_54 4 (dk_at dksX7_isAsSeen_1 0 rfl rfl)
theorem dX7_isAsSeen_26 : decode cX7_isAsSeen 26 = .ok (.iload 4, 2) := dk_21 4 (dk_at dksX7_isAsSeen_1 2 rfl rfl)
theorem dX7_isAsSeen_28 : decode cX7_isAsSeen 28 = .ok (.ifCond .eq 27, 3) := dk_153 0 27 (dk_at dksX7_isAsSeen_1 4 rfl rfl)
theorem dX7_isAsSeen_31 : decode cX7_isAsSeen 31 = .ok (.aload_n 0, 1) := dk_42 (dk_at dksX7_isAsSeen_1 7 rfl rfl)
theorem dX7_isAsSeen_32 : decode cX7_isAsSeen 32 = .ok (.iload_n 1, 1) := dk_27 (dk_at dksX7_isAsSeen_1 8 rfl rfl)
theorem dX7_isAsSeen_33 : decode cX7_isAsSeen 33 = .ok (.aload_n 0, 1) := dk_42 (dk_at dksX7_isAsSeen_1 9 rfl rfl)
theorem dX7_isAsSeen_34 : decode cX7_isAsSeen 34 = .ok (.getfield 28, 3) := dk_180 0 28 (dk_at dksX7_isAsSeen_1 10 rfl rfl)
theorem dX7_isAsSeen_37 : decode cX7_isAsSeen 37 = .ok (.iconst 3, 1) := dk_6 (dk_at dksX7_isAsSeen_1 13 rfl rfl)
theorem dX7_isAsSeen_38 : decode cX7_isAsSeen 38 = .ok (.iload_n 3, 1) := dk_29 (dk_at dksX7_isAsSeen_1 14 rfl rfl)
theorem dX7_isAsSeen_39 : decode cX7_isAsSeen 39 = .ok (.imul, 1) := dk_104 (dk_at dksX7_isAsSeen_1 15 rfl rfl)
theorem dX7_isAsSeen_40 : decode cX7_isAsSeen 40 = .ok (.iaload, 1) := dk_46 (dk_at dksX7_isAsSeen_1 16 rfl rfl)
theorem dX7_isAsSeen_41 : decode cX7_isAsSeen 41 = .ok (.aload_n 0, 1) := dk_42 (dk_at dksX7_isAsSeen_1 17 rfl rfl)
theorem dX7_isAsSeen_42 : decode cX7_isAsSeen 42 = .ok (.getfield 28, 3) := dk_180 0 28 (dk_at dksX7_isAsSeen_1 18 rfl rfl)
theorem dX7_isAsSeen_45 : decode cX7_isAsSeen 45 = .ok (.iconst 3, 1) := dk_6 (dk_at dksX7_isAsSeen_1 21 rfl rfl)
theorem dX7_isAsSeen_46 : decode cX7_isAsSeen 46 = .ok (.iload_n 3, 1) := dk_29 (dk_at dksX7_isAsSeen_1 22 rfl rfl)
theorem dX7_isAsSeen_47 : decode cX7_isAsSeen 47 = .ok (.imul, 1) := dk_104 (dk_at dksX7_isAsSeen_1 23 rfl rfl)
theorem dX7_isAsSeen_48 : decode cX7_isAsSeen 48 = .ok (.iconst 1, 1) := dk_4 (dk_at dksX7_isAsSeen_2 0 rfl rfl)
theorem dX7_isAsSeen_49 : decode cX7_isAsSeen 49 = .ok (.iadd, 1) := dk_96 (dk_at dksX7_isAsSeen_2 1 rfl rfl)
theorem dX7_isAsSeen_50 : decode cX7_isAsSeen 50 = .ok (.iaload, 1) := dk_46 (dk_at dksX7_isAsSeen_2 2 rfl rfl)
theorem dX7_isAsSeen_51 : decode cX7_isAsSeen 51 = .ok (.iconst 0, 1) := dk_3 (dk_at dksX7_isAsSeen_2 3 rfl rfl)
theorem dX7_isAsSeen_52 : decode cX7_isAsSeen 52 = .ok (.invokevirtual 164, 3) := dk_182 0 164 (dk_at dksX7_isAsSeen_2 4 rfl rfl)
theorem dX7_isAsSeen_55 : decode cX7_isAsSeen 55 = .ok (.iload_n 2, 1) := dk_28 (dk_at dksX7_isAsSeen_2 7 rfl rfl)
theorem dX7_isAsSeen_56 : decode cX7_isAsSeen 56 = .ok (.ifCond .eq 29, 3) := dk_153 0 29 (dk_at dksX7_isAsSeen_2 8 rfl rfl)
theorem dX7_isAsSeen_59 : decode cX7_isAsSeen 59 = .ok (.iload 4, 2) := dk_21 4 (dk_at dksX7_isAsSeen_2 11 rfl rfl)
theorem dX7_isAsSeen_61 : decode cX7_isAsSeen 61 = .ok (.ifCond .eq 24, 3) := dk_153 0 24 (dk_at dksX7_isAsSeen_2 13 rfl rfl)
theorem dX7_isAsSeen_64 : decode cX7_isAsSeen 64 = .ok (.aload_n 0, 1) := dk_42 (dk_at dksX7_isAsSeen_2 16 rfl rfl)
theorem dX7_isAsSeen_65 : decode cX7_isAsSeen 65 = .ok (.getfield 145, 3) := dk_180 0 145 (dk_at dksX7_isAsSeen_2 17 rfl rfl)
theorem dX7_isAsSeen_68 : decode cX7_isAsSeen 68 = .ok (.aload_n 0, 1) := dk_42 (dk_at dksX7_isAsSeen_2 20 rfl rfl)
theorem dX7_isAsSeen_69 : decode cX7_isAsSeen 69 = .ok (.getfield 28, 3) := dk_180 0 28 (dk_at dksX7_isAsSeen_2 21 rfl rfl)
theorem dX7_isAsSeen_72 : decode cX7_isAsSeen 72 = .ok (.iconst 3, 1) := dk_6 (dk_at dksX7_isAsSeen_3 0 rfl rfl)
theorem dX7_isAsSeen_73 : decode cX7_isAsSeen 73 = .ok (.iload_n 3, 1) := dk_29 (dk_at dksX7_isAsSeen_3 1 rfl rfl)
theorem dX7_isAsSeen_74 : decode cX7_isAsSeen 74 = .ok (.imul, 1) := dk_104 (dk_at dksX7_isAsSeen_3 2 rfl rfl)
theorem dX7_isAsSeen_75 : decode cX7_isAsSeen 75 = .ok (.iconst 2, 1) := dk_5 (dk_at dksX7_isAsSeen_3 3 rfl rfl)
theorem dX7_isAsSeen_76 : decode cX7_isAsSeen 76 = .ok (.iadd, 1) := dk_96 (dk_at dksX7_isAsSeen_3 4 rfl rfl)
theorem dX7_isAsSeen_77 : decode cX7_isAsSeen 77 = .ok (.iaload, 1) := dk_46 (dk_at dksX7_isAsSeen_3 5 rfl rfl)
theorem dX7_isAsSeen_78 : decode cX7_isAsSeen 78 = .ok (.if_icmp .ne 7, 3) := dk_160 0 7 (dk_at dksX7_isAsSeen_3 6 rfl rfl)
theorem dX7_isAsSeen_81 : decode cX7_isAsSeen 81 = .ok (.iconst 1, 1) := dk_4 (dk_at dksX7_isAsSeen_3 9 rfl rfl)
theorem dX7_isAsSeen_82 : decode cX7_isAsSeen 82 = .ok (.goto 4, 3) := dk_167 0 4 (dk_at dksX7_isAsSeen_3 10 rfl rfl)
theorem dX7_isAsSeen_85 : decode cX7_isAsSeen 85 = .ok (.iconst 0, 1) := dk_3 (dk_at dksX7_isAsSeen_3 13 rfl rfl)
theorem dX7_isAsSeen_86 : decode cX7_isAsSeen 86 = .ok (.istore_n 2, 1) := dk_61 (dk_at dksX7_isAsSeen_3 14 rfl rfl)
theorem dX7_isAsSeen_87 : decode cX7_isAsSeen 87 = .ok (.iinc 3 1, 3) := dk_132 3 1 (dk_at dksX7_isAsSeen_3 15 rfl rfl)
theorem dX7_isAsSeen_90 : decode cX7_isAsSeen 90 = .ok (.goto (-86), 3) := dk_167 255 170 (dk_at dksX7_isAsSeen_3 18 rfl rfl)
theorem dX7_isAsSeen_93 : decode cX7_isAsSeen 93 = .ok (.iload_n 2, 1) := dk_28 (dk_at dksX7_isAsSeen_3 21 rfl rfl)
theorem dX7_isAsSeen_94 : decode cX7_isAsSeen 94 = .ok (.ireturn, 1) := dk_172 (dk_at dksX7_isAsSeen_3 22 rfl rfl)
abbrev cX7_speeds : ByteArray := prog_11_method_72_code
def yX7_speeds : MethodName := ⟨RX7, "speeds", "(I)I"⟩
def dkwX7_speeds_0 : List UInt8 := [42, 27, 182, 0, 180, 153, 0, 11, 42, 27, 182, 0, 241, 167, 0, 4, 2, 172]
abbrev dktX7_speeds_0 : List UInt8 := dkwX7_speeds_0 ++ []
theorem dksX7_speeds_0 : cX7_speeds.data.toList.drop 0 = dktX7_speeds_0 := by decide +kernel
theorem dX7_speeds_0 : decode cX7_speeds 0 = .ok (.aload_n 0, 1) := dk_42 (dk_at dksX7_speeds_0 0 rfl rfl)
theorem dX7_speeds_1 : decode cX7_speeds 1 = .ok (.iload_n 1, 1) := dk_27 (dk_at dksX7_speeds_0 1 rfl rfl)
theorem dX7_speeds_2 : decode cX7_speeds 2 = .ok (.invokevirtual 180, 3) := dk_182 0 180 (dk_at dksX7_speeds_0 2 rfl rfl)
theorem dX7_speeds_5 : decode cX7_speeds 5 = .ok (.ifCond .eq 11, 3) := dk_153 0 11 (dk_at dksX7_speeds_0 5 rfl rfl)
theorem dX7_speeds_8 : decode cX7_speeds 8 = .ok (.aload_n 0, 1) := dk_42 (dk_at dksX7_speeds_0 8 rfl rfl)
theorem dX7_speeds_9 : decode cX7_speeds 9 = .ok (.iload_n 1, 1) := dk_27 (dk_at dksX7_speeds_0 9 rfl rfl)
theorem dX7_speeds_10 : decode cX7_speeds 10 = .ok (.invokevirtual 241, 3) := dk_182 0 241 (dk_at dksX7_speeds_0 10 rfl rfl)
theorem dX7_speeds_13 : decode cX7_speeds 13 = .ok (.goto 4, 3) := dk_167 0 4 (dk_at dksX7_speeds_0 13 rfl rfl)
theorem dX7_speeds_16 : decode cX7_speeds 16 = .ok (.iconst (-1), 1) := dk_2 (dk_at dksX7_speeds_0 16 rfl rfl)
theorem dX7_speeds_17 : decode cX7_speeds 17 = .ok (.ireturn, 1) := dk_172 (dk_at dksX7_speeds_0 17 rfl rfl)
abbrev cX7_speedsOf : ByteArray := prog_11_method_71_code
def yX7_speedsOf : MethodName := ⟨RX7, "speedsOf", "(I)I"⟩
def dkwX7_speedsOf_4 : List UInt8 := [132, 3, 1, 167, 255, 173, 28, 172]
abbrev dktX7_speedsOf_4 : List UInt8 := dkwX7_speedsOf_4 ++ []
def dkwX7_speedsOf_3 : List UInt8 := [42, 180, 0, 31, 16, 8, 29, 104, 21, 4, 96, 42, 180, 0, 145, 79, 132, 4, 1, 167, 255, 219]
abbrev dktX7_speedsOf_3 : List UInt8 := dkwX7_speedsOf_3 ++ dktX7_speedsOf_4
def dkwX7_speedsOf_2 : List UInt8 := [3, 128, 61, 3, 54, 4, 21, 4, 16, 8, 162, 0, 36, 42, 17, 0, 164, 27, 21, 4, 3, 182, 0, 164]
abbrev dktX7_speedsOf_2 : List UInt8 := dkwX7_speedsOf_2 ++ dktX7_speedsOf_3
def dkwX7_speedsOf_1 : List UInt8 := [17, 0, 186, 27, 96, 29, 79, 28, 42, 17, 0, 164, 182, 0, 238, 153, 0, 9, 4, 29, 120, 167, 0, 4]
abbrev dktX7_speedsOf_1 : List UInt8 := dkwX7_speedsOf_1 ++ dktX7_speedsOf_2
def dkwX7_speedsOf_0 : List UInt8 := [3, 61, 42, 3, 17, 0, 164, 182, 0, 218, 4, 62, 29, 16, 9, 163, 0, 83, 42, 180, 0, 7]
abbrev dktX7_speedsOf_0 : List UInt8 := dkwX7_speedsOf_0 ++ dktX7_speedsOf_1
theorem dksX7_speedsOf_0 : cX7_speedsOf.data.toList.drop 0 = dktX7_speedsOf_0 := by decide +kernel
theorem dksX7_speedsOf_1 : cX7_speedsOf.data.toList.drop 22 = dktX7_speedsOf_1 := dk_seg dksX7_speedsOf_0 22 rfl rfl
theorem dksX7_speedsOf_2 : cX7_speedsOf.data.toList.drop 46 = dktX7_speedsOf_2 := dk_seg dksX7_speedsOf_1 24 rfl rfl
theorem dksX7_speedsOf_3 : cX7_speedsOf.data.toList.drop 70 = dktX7_speedsOf_3 := dk_seg dksX7_speedsOf_2 24 rfl rfl
theorem dksX7_speedsOf_4 : cX7_speedsOf.data.toList.drop 92 = dktX7_speedsOf_4 := dk_seg dksX7_speedsOf_3 22 rfl rfl
theorem dX7_speedsOf_0 : decode cX7_speedsOf 0 = .ok (.iconst 0, 1) := dk_3 (dk_at dksX7_speedsOf_0 0 rfl rfl)
theorem dX7_speedsOf_1 : decode cX7_speedsOf 1 = .ok (.istore_n 2, 1) := dk_61 (dk_at dksX7_speedsOf_0 1 rfl rfl)
theorem dX7_speedsOf_2 : decode cX7_speedsOf 2 = .ok (.aload_n 0, 1) := dk_42 (dk_at dksX7_speedsOf_0 2 rfl rfl)
theorem dX7_speedsOf_3 : decode cX7_speedsOf 3 = .ok (.iconst 0, 1) := dk_3 (dk_at dksX7_speedsOf_0 3 rfl rfl)
theorem dX7_speedsOf_4 : decode cX7_speedsOf 4 = .ok (.sipush 164, 3) := dk_17 0 164 (dk_at dksX7_speedsOf_0 4 rfl rfl)
theorem dX7_speedsOf_7 : decode cX7_speedsOf 7 = .ok (.invokevirtual 218, 3) := dk_182 0 218 (dk_at dksX7_speedsOf_0 7 rfl rfl)
theorem dX7_speedsOf_10 : decode cX7_speedsOf 10 = .ok (.iconst 1, 1) := dk_4 (dk_at dksX7_speedsOf_0 10 rfl rfl)
theorem dX7_speedsOf_11 : decode cX7_speedsOf 11 = .ok (.istore_n 3, 1) := dk_62 (dk_at dksX7_speedsOf_0 11 rfl rfl)
theorem dX7_speedsOf_12 : decode cX7_speedsOf 12 = .ok (.iload_n 3, 1) := dk_29 (dk_at dksX7_speedsOf_0 12 rfl rfl)
theorem dX7_speedsOf_13 : decode cX7_speedsOf 13 = .ok (.bipush 9, 2) := dk_16 9 (dk_at dksX7_speedsOf_0 13 rfl rfl)
theorem dX7_speedsOf_15 : decode cX7_speedsOf 15 = .ok (.if_icmp .gt 83, 3) := dk_163 0 83 (dk_at dksX7_speedsOf_0 15 rfl rfl)
theorem dX7_speedsOf_18 : decode cX7_speedsOf 18 = .ok (.aload_n 0, 1) := dk_42 (dk_at dksX7_speedsOf_0 18 rfl rfl)
theorem dX7_speedsOf_19 : decode cX7_speedsOf 19 = .ok (.getfield 7, 3) := dk_180 0 7 (dk_at dksX7_speedsOf_0 19 rfl rfl)
theorem dX7_speedsOf_22 : decode cX7_speedsOf 22 = .ok (.sipush 186, 3) := dk_17 0 186 (dk_at dksX7_speedsOf_1 0 rfl rfl)
theorem dX7_speedsOf_25 : decode cX7_speedsOf 25 = .ok (.iload_n 1, 1) := dk_27 (dk_at dksX7_speedsOf_1 3 rfl rfl)
theorem dX7_speedsOf_26 : decode cX7_speedsOf 26 = .ok (.iadd, 1) := dk_96 (dk_at dksX7_speedsOf_1 4 rfl rfl)
theorem dX7_speedsOf_27 : decode cX7_speedsOf 27 = .ok (.iload_n 3, 1) := dk_29 (dk_at dksX7_speedsOf_1 5 rfl rfl)
theorem dX7_speedsOf_28 : decode cX7_speedsOf 28 = .ok (.iastore, 1) := dk_79 (dk_at dksX7_speedsOf_1 6 rfl rfl)
theorem dX7_speedsOf_29 : decode cX7_speedsOf 29 = .ok (.iload_n 2, 1) := dk_28 (dk_at dksX7_speedsOf_1 7 rfl rfl)
theorem dX7_speedsOf_30 : decode cX7_speedsOf 30 = .ok (.aload_n 0, 1) := dk_42 (dk_at dksX7_speedsOf_1 8 rfl rfl)
theorem dX7_speedsOf_31 : decode cX7_speedsOf 31 = .ok (.sipush 164, 3) := dk_17 0 164 (dk_at dksX7_speedsOf_1 9 rfl rfl)
theorem dX7_speedsOf_34 : decode cX7_speedsOf 34 = .ok (.invokevirtual 238, 3) := dk_182 0 238 (dk_at dksX7_speedsOf_1 12 rfl rfl)
theorem dX7_speedsOf_37 : decode cX7_speedsOf 37 = .ok (.ifCond .eq 9, 3) := dk_153 0 9 (dk_at dksX7_speedsOf_1 15 rfl rfl)
theorem dX7_speedsOf_40 : decode cX7_speedsOf 40 = .ok (.iconst 1, 1) := dk_4 (dk_at dksX7_speedsOf_1 18 rfl rfl)
theorem dX7_speedsOf_41 : decode cX7_speedsOf 41 = .ok (.iload_n 3, 1) := dk_29 (dk_at dksX7_speedsOf_1 19 rfl rfl)
theorem dX7_speedsOf_42 : decode cX7_speedsOf 42 = .ok (.ishl, 1) := dk_120 (dk_at dksX7_speedsOf_1 20 rfl rfl)
theorem dX7_speedsOf_43 : decode cX7_speedsOf 43 = .ok (.goto 4, 3) := dk_167 0 4 (dk_at dksX7_speedsOf_1 21 rfl rfl)
theorem dX7_speedsOf_46 : decode cX7_speedsOf 46 = .ok (.iconst 0, 1) := dk_3 (dk_at dksX7_speedsOf_2 0 rfl rfl)
theorem dX7_speedsOf_47 : decode cX7_speedsOf 47 = .ok (.ior, 1) := dk_128 (dk_at dksX7_speedsOf_2 1 rfl rfl)
theorem dX7_speedsOf_48 : decode cX7_speedsOf 48 = .ok (.istore_n 2, 1) := dk_61 (dk_at dksX7_speedsOf_2 2 rfl rfl)
theorem dX7_speedsOf_49 : decode cX7_speedsOf 49 = .ok (.iconst 0, 1) := dk_3 (dk_at dksX7_speedsOf_2 3 rfl rfl)
theorem dX7_speedsOf_50 : decode cX7_speedsOf 50 = .ok (.istore 4, 2) := dk_54 4 (dk_at dksX7_speedsOf_2 4 rfl rfl)
theorem dX7_speedsOf_52 : decode cX7_speedsOf 52 = .ok (.iload 4, 2) := dk_21 4 (dk_at dksX7_speedsOf_2 6 rfl rfl)
theorem dX7_speedsOf_54 : decode cX7_speedsOf 54 = .ok (.bipush 8, 2) := dk_16 8 (dk_at dksX7_speedsOf_2 8 rfl rfl)
theorem dX7_speedsOf_56 : decode cX7_speedsOf 56 = .ok (.if_icmp .ge 36, 3) := dk_162 0 36 (dk_at dksX7_speedsOf_2 10 rfl rfl)
theorem dX7_speedsOf_59 : decode cX7_speedsOf 59 = .ok (.aload_n 0, 1) := dk_42 (dk_at dksX7_speedsOf_2 13 rfl rfl)
theorem dX7_speedsOf_60 : decode cX7_speedsOf 60 = .ok (.sipush 164, 3) := dk_17 0 164 (dk_at dksX7_speedsOf_2 14 rfl rfl)
theorem dX7_speedsOf_63 : decode cX7_speedsOf 63 = .ok (.iload_n 1, 1) := dk_27 (dk_at dksX7_speedsOf_2 17 rfl rfl)
theorem dX7_speedsOf_64 : decode cX7_speedsOf 64 = .ok (.iload 4, 2) := dk_21 4 (dk_at dksX7_speedsOf_2 18 rfl rfl)
theorem dX7_speedsOf_66 : decode cX7_speedsOf 66 = .ok (.iconst 0, 1) := dk_3 (dk_at dksX7_speedsOf_2 20 rfl rfl)
theorem dX7_speedsOf_67 : decode cX7_speedsOf 67 = .ok (.invokevirtual 164, 3) := dk_182 0 164 (dk_at dksX7_speedsOf_2 21 rfl rfl)
theorem dX7_speedsOf_70 : decode cX7_speedsOf 70 = .ok (.aload_n 0, 1) := dk_42 (dk_at dksX7_speedsOf_3 0 rfl rfl)
theorem dX7_speedsOf_71 : decode cX7_speedsOf 71 = .ok (.getfield 31, 3) := dk_180 0 31 (dk_at dksX7_speedsOf_3 1 rfl rfl)
theorem dX7_speedsOf_74 : decode cX7_speedsOf 74 = .ok (.bipush 8, 2) := dk_16 8 (dk_at dksX7_speedsOf_3 4 rfl rfl)
theorem dX7_speedsOf_76 : decode cX7_speedsOf 76 = .ok (.iload_n 3, 1) := dk_29 (dk_at dksX7_speedsOf_3 6 rfl rfl)
theorem dX7_speedsOf_77 : decode cX7_speedsOf 77 = .ok (.imul, 1) := dk_104 (dk_at dksX7_speedsOf_3 7 rfl rfl)
theorem dX7_speedsOf_78 : decode cX7_speedsOf 78 = .ok (.iload 4, 2) := dk_21 4 (dk_at dksX7_speedsOf_3 8 rfl rfl)
theorem dX7_speedsOf_80 : decode cX7_speedsOf 80 = .ok (.iadd, 1) := dk_96 (dk_at dksX7_speedsOf_3 10 rfl rfl)
theorem dX7_speedsOf_81 : decode cX7_speedsOf 81 = .ok (.aload_n 0, 1) := dk_42 (dk_at dksX7_speedsOf_3 11 rfl rfl)
theorem dX7_speedsOf_82 : decode cX7_speedsOf 82 = .ok (.getfield 145, 3) := dk_180 0 145 (dk_at dksX7_speedsOf_3 12 rfl rfl)
theorem dX7_speedsOf_85 : decode cX7_speedsOf 85 = .ok (.iastore, 1) := dk_79 (dk_at dksX7_speedsOf_3 15 rfl rfl)
theorem dX7_speedsOf_86 : decode cX7_speedsOf 86 = .ok (.iinc 4 1, 3) := dk_132 4 1 (dk_at dksX7_speedsOf_3 16 rfl rfl)
theorem dX7_speedsOf_89 : decode cX7_speedsOf 89 = .ok (.goto (-37), 3) := dk_167 255 219 (dk_at dksX7_speedsOf_3 19 rfl rfl)
theorem dX7_speedsOf_92 : decode cX7_speedsOf 92 = .ok (.iinc 3 1, 3) := dk_132 3 1 (dk_at dksX7_speedsOf_4 0 rfl rfl)
theorem dX7_speedsOf_95 : decode cX7_speedsOf 95 = .ok (.goto (-83), 3) := dk_167 255 173 (dk_at dksX7_speedsOf_4 3 rfl rfl)
theorem dX7_speedsOf_98 : decode cX7_speedsOf 98 = .ok (.iload_n 2, 1) := dk_28 (dk_at dksX7_speedsOf_4 6 rfl rfl)
theorem dX7_speedsOf_99 : decode cX7_speedsOf 99 = .ok (.ireturn, 1) := dk_172 (dk_at dksX7_speedsOf_4 7 rfl rfl)
abbrev cX7_ask : ByteArray := prog_11_method_73_code
def yX7_ask : MethodName := ⟨RX7, "ask", "(II)I"⟩
def dkwX7_ask_9 : List UInt8 := [167, 0, 5, 21, 4, 172]
abbrev dktX7_ask_9 : List UInt8 := dkwX7_ask_9 ++ []
def dkwX7_ask_8 : List UInt8 := [21, 4, 54, 4, 132, 6, 1, 167, 255, 101, 21, 5, 16, 252, 159, 0, 7, 28, 154, 0, 8, 21, 5]
abbrev dktX7_ask_8 : List UInt8 := dkwX7_ask_8 ++ dktX7_ask_9
def dkwX7_ask_7 : List UInt8 := [162, 0, 8, 21, 6, 167, 0, 5, 21, 5, 54, 5, 21, 7, 21, 4, 162, 0, 8, 21, 7, 167, 0, 5]
abbrev dktX7_ask_7 : List UInt8 := dkwX7_ask_7 ++ dktX7_ask_8
def dkwX7_ask_6 : List UInt8 := [21, 7, 164, 0, 8, 21, 9, 167, 0, 5, 21, 7, 54, 7, 132, 8, 1, 167, 255, 152, 21, 7, 21, 4]
abbrev dktX7_ask_6 : List UInt8 := dkwX7_ask_6 ++ dktX7_ask_7
def dkwX7_ask_5 : List UInt8 := [104, 21, 6, 96, 46, 160, 0, 7, 4, 167, 0, 4, 3, 96, 54, 9, 132, 10, 1, 167, 255, 187, 21, 9]
abbrev dktX7_ask_5 : List UInt8 := dkwX7_ask_5 ++ dktX7_ask_6
def dkwX7_ask_4 : List UInt8 := [160, 0, 36, 42, 180, 0, 31, 16, 8, 21, 8, 104, 21, 6, 96, 46, 42, 180, 0, 31, 16, 8, 21, 10]
abbrev dktX7_ask_4 : List UInt8 := dkwX7_ask_4 ++ dktX7_ask_5
def dkwX7_ask_3 : List UInt8 := [163, 0, 68, 29, 21, 8, 122, 4, 126, 4, 160, 0, 58, 21, 9, 29, 21, 10, 122, 4, 126, 4]
abbrev dktX7_ask_3 : List UInt8 := dkwX7_ask_3 ++ dktX7_ask_4
def dkwX7_ask_2 : List UInt8 := [3, 54, 7, 4, 54, 8, 21, 8, 16, 9, 163, 0, 103, 3, 54, 9, 4, 54, 10, 21, 10, 16, 9]
abbrev dktX7_ask_2 : List UInt8 := dkwX7_ask_2 ++ dktX7_ask_3
def dkwX7_ask_1 : List UInt8 := [182, 0, 241, 62, 29, 184, 0, 221, 54, 4, 16, 252, 54, 5, 3, 54, 6, 21, 6, 16, 8, 162, 0, 154]
abbrev dktX7_ask_1 : List UInt8 := dkwX7_ask_1 ++ dktX7_ask_2
def dkwX7_ask_0 : List UInt8 := [42, 27, 182, 0, 180, 153, 0, 13, 28, 133, 9, 10, 184, 0, 49, 154, 0, 5, 2, 172, 42, 27]
abbrev dktX7_ask_0 : List UInt8 := dkwX7_ask_0 ++ dktX7_ask_1
theorem dksX7_ask_0 : cX7_ask.data.toList.drop 0 = dktX7_ask_0 := by decide +kernel
theorem dksX7_ask_1 : cX7_ask.data.toList.drop 22 = dktX7_ask_1 := dk_seg dksX7_ask_0 22 rfl rfl
theorem dksX7_ask_2 : cX7_ask.data.toList.drop 46 = dktX7_ask_2 := dk_seg dksX7_ask_1 24 rfl rfl
theorem dksX7_ask_3 : cX7_ask.data.toList.drop 69 = dktX7_ask_3 := dk_seg dksX7_ask_2 23 rfl rfl
theorem dksX7_ask_4 : cX7_ask.data.toList.drop 91 = dktX7_ask_4 := dk_seg dksX7_ask_3 22 rfl rfl
theorem dksX7_ask_5 : cX7_ask.data.toList.drop 115 = dktX7_ask_5 := dk_seg dksX7_ask_4 24 rfl rfl
theorem dksX7_ask_6 : cX7_ask.data.toList.drop 139 = dktX7_ask_6 := dk_seg dksX7_ask_5 24 rfl rfl
theorem dksX7_ask_7 : cX7_ask.data.toList.drop 163 = dktX7_ask_7 := dk_seg dksX7_ask_6 24 rfl rfl
theorem dksX7_ask_8 : cX7_ask.data.toList.drop 187 = dktX7_ask_8 := dk_seg dksX7_ask_7 24 rfl rfl
theorem dksX7_ask_9 : cX7_ask.data.toList.drop 210 = dktX7_ask_9 := dk_seg dksX7_ask_8 23 rfl rfl
theorem dX7_ask_0 : decode cX7_ask 0 = .ok (.aload_n 0, 1) := dk_42 (dk_at dksX7_ask_0 0 rfl rfl)
theorem dX7_ask_1 : decode cX7_ask 1 = .ok (.iload_n 1, 1) := dk_27 (dk_at dksX7_ask_0 1 rfl rfl)
theorem dX7_ask_2 : decode cX7_ask 2 = .ok (.invokevirtual 180, 3) := dk_182 0 180 (dk_at dksX7_ask_0 2 rfl rfl)
theorem dX7_ask_5 : decode cX7_ask 5 = .ok (.ifCond .eq 13, 3) := dk_153 0 13 (dk_at dksX7_ask_0 5 rfl rfl)
theorem dX7_ask_8 : decode cX7_ask 8 = .ok (.iload_n 2, 1) := dk_28 (dk_at dksX7_ask_0 8 rfl rfl)
theorem dX7_ask_9 : decode cX7_ask 9 = .ok (.i2l, 1) := dk_133 (dk_at dksX7_ask_0 9 rfl rfl)
theorem dX7_ask_10 : decode cX7_ask 10 = .ok (.lconst 0, 1) := dk_9 (dk_at dksX7_ask_0 10 rfl rfl)
theorem dX7_ask_11 : decode cX7_ask 11 = .ok (.lconst 1, 1) := dk_10 (dk_at dksX7_ask_0 11 rfl rfl)
theorem dX7_ask_12 : decode cX7_ask 12 = .ok (.invokestatic 49, 3) := dk_184 0 49 (dk_at dksX7_ask_0 12 rfl rfl)
theorem dX7_ask_15 : decode cX7_ask 15 = .ok (.ifCond .ne 5, 3) := dk_154 0 5 (dk_at dksX7_ask_0 15 rfl rfl)
theorem dX7_ask_18 : decode cX7_ask 18 = .ok (.iconst (-1), 1) := dk_2 (dk_at dksX7_ask_0 18 rfl rfl)
theorem dX7_ask_19 : decode cX7_ask 19 = .ok (.ireturn, 1) := dk_172 (dk_at dksX7_ask_0 19 rfl rfl)
theorem dX7_ask_20 : decode cX7_ask 20 = .ok (.aload_n 0, 1) := dk_42 (dk_at dksX7_ask_0 20 rfl rfl)
theorem dX7_ask_21 : decode cX7_ask 21 = .ok (.iload_n 1, 1) := dk_27 (dk_at dksX7_ask_0 21 rfl rfl)
theorem dX7_ask_22 : decode cX7_ask 22 = .ok (.invokevirtual 241, 3) := dk_182 0 241 (dk_at dksX7_ask_1 0 rfl rfl)
theorem dX7_ask_25 : decode cX7_ask 25 = .ok (.istore_n 3, 1) := dk_62 (dk_at dksX7_ask_1 3 rfl rfl)
theorem dX7_ask_26 : decode cX7_ask 26 = .ok (.iload_n 3, 1) := dk_29 (dk_at dksX7_ask_1 4 rfl rfl)
theorem dX7_ask_27 : decode cX7_ask 27 = .ok (.invokestatic 221, 3) := dk_184 0 221 (dk_at dksX7_ask_1 5 rfl rfl)
theorem dX7_ask_30 : decode cX7_ask 30 = .ok (.istore 4, 2) := dk_54 4 (dk_at dksX7_ask_1 8 rfl rfl)
theorem dX7_ask_32 : decode cX7_ask 32 = .ok (.bipush (-4), 2) := dk_16 252 (dk_at dksX7_ask_1 10 rfl rfl)
theorem dX7_ask_34 : decode cX7_ask 34 = .ok (.istore 5, 2) := dk_54 5 (dk_at dksX7_ask_1 12 rfl rfl)
theorem dX7_ask_36 : decode cX7_ask 36 = .ok (.iconst 0, 1) := dk_3 (dk_at dksX7_ask_1 14 rfl rfl)
theorem dX7_ask_37 : decode cX7_ask 37 = .ok (.istore 6, 2) := dk_54 6 (dk_at dksX7_ask_1 15 rfl rfl)
theorem dX7_ask_39 : decode cX7_ask 39 = .ok (.iload 6, 2) := dk_21 6 (dk_at dksX7_ask_1 17 rfl rfl)
theorem dX7_ask_41 : decode cX7_ask 41 = .ok (.bipush 8, 2) := dk_16 8 (dk_at dksX7_ask_1 19 rfl rfl)
theorem dX7_ask_43 : decode cX7_ask 43 = .ok (.if_icmp .ge 154, 3) := dk_162 0 154 (dk_at dksX7_ask_1 21 rfl rfl)
theorem dX7_ask_46 : decode cX7_ask 46 = .ok (.iconst 0, 1) := dk_3 (dk_at dksX7_ask_2 0 rfl rfl)
theorem dX7_ask_47 : decode cX7_ask 47 = .ok (.istore 7, 2) := dk_54 7 (dk_at dksX7_ask_2 1 rfl rfl)
theorem dX7_ask_49 : decode cX7_ask 49 = .ok (.iconst 1, 1) := dk_4 (dk_at dksX7_ask_2 3 rfl rfl)
theorem dX7_ask_50 : decode cX7_ask 50 = .ok (.istore 8, 2) := dk_54 8 (dk_at dksX7_ask_2 4 rfl rfl)
theorem dX7_ask_52 : decode cX7_ask 52 = .ok (.iload 8, 2) := dk_21 8 (dk_at dksX7_ask_2 6 rfl rfl)
theorem dX7_ask_54 : decode cX7_ask 54 = .ok (.bipush 9, 2) := dk_16 9 (dk_at dksX7_ask_2 8 rfl rfl)
theorem dX7_ask_56 : decode cX7_ask 56 = .ok (.if_icmp .gt 103, 3) := dk_163 0 103 (dk_at dksX7_ask_2 10 rfl rfl)
theorem dX7_ask_59 : decode cX7_ask 59 = .ok (.iconst 0, 1) := dk_3 (dk_at dksX7_ask_2 13 rfl rfl)
theorem dX7_ask_60 : decode cX7_ask 60 = .ok (.istore 9, 2) := dk_54 9 (dk_at dksX7_ask_2 14 rfl rfl)
theorem dX7_ask_62 : decode cX7_ask 62 = .ok (.iconst 1, 1) := dk_4 (dk_at dksX7_ask_2 16 rfl rfl)
theorem dX7_ask_63 : decode cX7_ask 63 = .ok (.istore 10, 2) := dk_54 10 (dk_at dksX7_ask_2 17 rfl rfl)
theorem dX7_ask_65 : decode cX7_ask 65 = .ok (.iload 10, 2) := dk_21 10 (dk_at dksX7_ask_2 19 rfl rfl)
theorem dX7_ask_67 : decode cX7_ask 67 = .ok (.bipush 9, 2) := dk_16 9 (dk_at dksX7_ask_2 21 rfl rfl)
theorem dX7_ask_69 : decode cX7_ask 69 = .ok (.if_icmp .gt 68, 3) := dk_163 0 68 (dk_at dksX7_ask_3 0 rfl rfl)
theorem dX7_ask_72 : decode cX7_ask 72 = .ok (.iload_n 3, 1) := dk_29 (dk_at dksX7_ask_3 3 rfl rfl)
theorem dX7_ask_73 : decode cX7_ask 73 = .ok (.iload 8, 2) := dk_21 8 (dk_at dksX7_ask_3 4 rfl rfl)
theorem dX7_ask_75 : decode cX7_ask 75 = .ok (.ishr, 1) := dk_122 (dk_at dksX7_ask_3 6 rfl rfl)
theorem dX7_ask_76 : decode cX7_ask 76 = .ok (.iconst 1, 1) := dk_4 (dk_at dksX7_ask_3 7 rfl rfl)
theorem dX7_ask_77 : decode cX7_ask 77 = .ok (.iand, 1) := dk_126 (dk_at dksX7_ask_3 8 rfl rfl)
theorem dX7_ask_78 : decode cX7_ask 78 = .ok (.iconst 1, 1) := dk_4 (dk_at dksX7_ask_3 9 rfl rfl)
theorem dX7_ask_79 : decode cX7_ask 79 = .ok (.if_icmp .ne 58, 3) := dk_160 0 58 (dk_at dksX7_ask_3 10 rfl rfl)
theorem dX7_ask_82 : decode cX7_ask 82 = .ok (.iload 9, 2) := dk_21 9 (dk_at dksX7_ask_3 13 rfl rfl)
theorem dX7_ask_84 : decode cX7_ask 84 = .ok (.iload_n 3, 1) := dk_29 (dk_at dksX7_ask_3 15 rfl rfl)
theorem dX7_ask_85 : decode cX7_ask 85 = .ok (.iload 10, 2) := dk_21 10 (dk_at dksX7_ask_3 16 rfl rfl)
theorem dX7_ask_87 : decode cX7_ask 87 = .ok (.ishr, 1) := dk_122 (dk_at dksX7_ask_3 18 rfl rfl)
theorem dX7_ask_88 : decode cX7_ask 88 = .ok (.iconst 1, 1) := dk_4 (dk_at dksX7_ask_3 19 rfl rfl)
theorem dX7_ask_89 : decode cX7_ask 89 = .ok (.iand, 1) := dk_126 (dk_at dksX7_ask_3 20 rfl rfl)
theorem dX7_ask_90 : decode cX7_ask 90 = .ok (.iconst 1, 1) := dk_4 (dk_at dksX7_ask_3 21 rfl rfl)
theorem dX7_ask_91 : decode cX7_ask 91 = .ok (.if_icmp .ne 36, 3) := dk_160 0 36 (dk_at dksX7_ask_4 0 rfl rfl)
theorem dX7_ask_94 : decode cX7_ask 94 = .ok (.aload_n 0, 1) := dk_42 (dk_at dksX7_ask_4 3 rfl rfl)
theorem dX7_ask_95 : decode cX7_ask 95 = .ok (.getfield 31, 3) := dk_180 0 31 (dk_at dksX7_ask_4 4 rfl rfl)
theorem dX7_ask_98 : decode cX7_ask 98 = .ok (.bipush 8, 2) := dk_16 8 (dk_at dksX7_ask_4 7 rfl rfl)
theorem dX7_ask_100 : decode cX7_ask 100 = .ok (.iload 8, 2) := dk_21 8 (dk_at dksX7_ask_4 9 rfl rfl)
theorem dX7_ask_102 : decode cX7_ask 102 = .ok (.imul, 1) := dk_104 (dk_at dksX7_ask_4 11 rfl rfl)
theorem dX7_ask_103 : decode cX7_ask 103 = .ok (.iload 6, 2) := dk_21 6 (dk_at dksX7_ask_4 12 rfl rfl)
theorem dX7_ask_105 : decode cX7_ask 105 = .ok (.iadd, 1) := dk_96 (dk_at dksX7_ask_4 14 rfl rfl)
theorem dX7_ask_106 : decode cX7_ask 106 = .ok (.iaload, 1) := dk_46 (dk_at dksX7_ask_4 15 rfl rfl)
theorem dX7_ask_107 : decode cX7_ask 107 = .ok (.aload_n 0, 1) := dk_42 (dk_at dksX7_ask_4 16 rfl rfl)
theorem dX7_ask_108 : decode cX7_ask 108 = .ok (.getfield 31, 3) := dk_180 0 31 (dk_at dksX7_ask_4 17 rfl rfl)
theorem dX7_ask_111 : decode cX7_ask 111 = .ok (.bipush 8, 2) := dk_16 8 (dk_at dksX7_ask_4 20 rfl rfl)
theorem dX7_ask_113 : decode cX7_ask 113 = .ok (.iload 10, 2) := dk_21 10 (dk_at dksX7_ask_4 22 rfl rfl)
theorem dX7_ask_115 : decode cX7_ask 115 = .ok (.imul, 1) := dk_104 (dk_at dksX7_ask_5 0 rfl rfl)
theorem dX7_ask_116 : decode cX7_ask 116 = .ok (.iload 6, 2) := dk_21 6 (dk_at dksX7_ask_5 1 rfl rfl)
theorem dX7_ask_118 : decode cX7_ask 118 = .ok (.iadd, 1) := dk_96 (dk_at dksX7_ask_5 3 rfl rfl)
theorem dX7_ask_119 : decode cX7_ask 119 = .ok (.iaload, 1) := dk_46 (dk_at dksX7_ask_5 4 rfl rfl)
theorem dX7_ask_120 : decode cX7_ask 120 = .ok (.if_icmp .ne 7, 3) := dk_160 0 7 (dk_at dksX7_ask_5 5 rfl rfl)
theorem dX7_ask_123 : decode cX7_ask 123 = .ok (.iconst 1, 1) := dk_4 (dk_at dksX7_ask_5 8 rfl rfl)
theorem dX7_ask_124 : decode cX7_ask 124 = .ok (.goto 4, 3) := dk_167 0 4 (dk_at dksX7_ask_5 9 rfl rfl)
theorem dX7_ask_127 : decode cX7_ask 127 = .ok (.iconst 0, 1) := dk_3 (dk_at dksX7_ask_5 12 rfl rfl)
theorem dX7_ask_128 : decode cX7_ask 128 = .ok (.iadd, 1) := dk_96 (dk_at dksX7_ask_5 13 rfl rfl)
theorem dX7_ask_129 : decode cX7_ask 129 = .ok (.istore 9, 2) := dk_54 9 (dk_at dksX7_ask_5 14 rfl rfl)
theorem dX7_ask_131 : decode cX7_ask 131 = .ok (.iinc 10 1, 3) := dk_132 10 1 (dk_at dksX7_ask_5 16 rfl rfl)
theorem dX7_ask_134 : decode cX7_ask 134 = .ok (.goto (-69), 3) := dk_167 255 187 (dk_at dksX7_ask_5 19 rfl rfl)
theorem dX7_ask_137 : decode cX7_ask 137 = .ok (.iload 9, 2) := dk_21 9 (dk_at dksX7_ask_5 22 rfl rfl)
theorem dX7_ask_139 : decode cX7_ask 139 = .ok (.iload 7, 2) := dk_21 7 (dk_at dksX7_ask_6 0 rfl rfl)
theorem dX7_ask_141 : decode cX7_ask 141 = .ok (.if_icmp .le 8, 3) := dk_164 0 8 (dk_at dksX7_ask_6 2 rfl rfl)
theorem dX7_ask_144 : decode cX7_ask 144 = .ok (.iload 9, 2) := dk_21 9 (dk_at dksX7_ask_6 5 rfl rfl)
theorem dX7_ask_146 : decode cX7_ask 146 = .ok (.goto 5, 3) := dk_167 0 5 (dk_at dksX7_ask_6 7 rfl rfl)
theorem dX7_ask_149 : decode cX7_ask 149 = .ok (.iload 7, 2) := dk_21 7 (dk_at dksX7_ask_6 10 rfl rfl)
theorem dX7_ask_151 : decode cX7_ask 151 = .ok (.istore 7, 2) := dk_54 7 (dk_at dksX7_ask_6 12 rfl rfl)
theorem dX7_ask_153 : decode cX7_ask 153 = .ok (.iinc 8 1, 3) := dk_132 8 1 (dk_at dksX7_ask_6 14 rfl rfl)
theorem dX7_ask_156 : decode cX7_ask 156 = .ok (.goto (-104), 3) := dk_167 255 152 (dk_at dksX7_ask_6 17 rfl rfl)
theorem dX7_ask_159 : decode cX7_ask 159 = .ok (.iload 7, 2) := dk_21 7 (dk_at dksX7_ask_6 20 rfl rfl)
theorem dX7_ask_161 : decode cX7_ask 161 = .ok (.iload 4, 2) := dk_21 4 (dk_at dksX7_ask_6 22 rfl rfl)
theorem dX7_ask_163 : decode cX7_ask 163 = .ok (.if_icmp .ge 8, 3) := dk_162 0 8 (dk_at dksX7_ask_7 0 rfl rfl)
theorem dX7_ask_166 : decode cX7_ask 166 = .ok (.iload 6, 2) := dk_21 6 (dk_at dksX7_ask_7 3 rfl rfl)
theorem dX7_ask_168 : decode cX7_ask 168 = .ok (.goto 5, 3) := dk_167 0 5 (dk_at dksX7_ask_7 5 rfl rfl)
theorem dX7_ask_171 : decode cX7_ask 171 = .ok (.iload 5, 2) := dk_21 5 (dk_at dksX7_ask_7 8 rfl rfl)
theorem dX7_ask_173 : decode cX7_ask 173 = .ok (.istore 5, 2) := dk_54 5 (dk_at dksX7_ask_7 10 rfl rfl)
theorem dX7_ask_175 : decode cX7_ask 175 = .ok (.iload 7, 2) := dk_21 7 (dk_at dksX7_ask_7 12 rfl rfl)
theorem dX7_ask_177 : decode cX7_ask 177 = .ok (.iload 4, 2) := dk_21 4 (dk_at dksX7_ask_7 14 rfl rfl)
theorem dX7_ask_179 : decode cX7_ask 179 = .ok (.if_icmp .ge 8, 3) := dk_162 0 8 (dk_at dksX7_ask_7 16 rfl rfl)
theorem dX7_ask_182 : decode cX7_ask 182 = .ok (.iload 7, 2) := dk_21 7 (dk_at dksX7_ask_7 19 rfl rfl)
theorem dX7_ask_184 : decode cX7_ask 184 = .ok (.goto 5, 3) := dk_167 0 5 (dk_at dksX7_ask_7 21 rfl rfl)
theorem dX7_ask_187 : decode cX7_ask 187 = .ok (.iload 4, 2) := dk_21 4 (dk_at dksX7_ask_8 0 rfl rfl)
theorem dX7_ask_189 : decode cX7_ask 189 = .ok (.istore 4, 2) := dk_54 4 (dk_at dksX7_ask_8 2 rfl rfl)
theorem dX7_ask_191 : decode cX7_ask 191 = .ok (.iinc 6 1, 3) := dk_132 6 1 (dk_at dksX7_ask_8 4 rfl rfl)
theorem dX7_ask_194 : decode cX7_ask 194 = .ok (.goto (-155), 3) := dk_167 255 101 (dk_at dksX7_ask_8 7 rfl rfl)
theorem dX7_ask_197 : decode cX7_ask 197 = .ok (.iload 5, 2) := dk_21 5 (dk_at dksX7_ask_8 10 rfl rfl)
theorem dX7_ask_199 : decode cX7_ask 199 = .ok (.bipush (-4), 2) := dk_16 252 (dk_at dksX7_ask_8 12 rfl rfl)
theorem dX7_ask_201 : decode cX7_ask 201 = .ok (.if_icmp .eq 7, 3) := dk_159 0 7 (dk_at dksX7_ask_8 14 rfl rfl)
theorem dX7_ask_204 : decode cX7_ask 204 = .ok (.iload_n 2, 1) := dk_28 (dk_at dksX7_ask_8 17 rfl rfl)
theorem dX7_ask_205 : decode cX7_ask 205 = .ok (.ifCond .ne 8, 3) := dk_154 0 8 (dk_at dksX7_ask_8 18 rfl rfl)
theorem dX7_ask_208 : decode cX7_ask 208 = .ok (.iload 5, 2) := dk_21 5 (dk_at dksX7_ask_8 21 rfl rfl)
theorem dX7_ask_210 : decode cX7_ask 210 = .ok (.goto 5, 3) := dk_167 0 5 (dk_at dksX7_ask_9 0 rfl rfl)
theorem dX7_ask_213 : decode cX7_ask 213 = .ok (.iload 4, 2) := dk_21 4 (dk_at dksX7_ask_9 3 rfl rfl)
theorem dX7_ask_215 : decode cX7_ask 215 = .ok (.ireturn, 1) := dk_172 (dk_at dksX7_ask_9 5 rfl rfl)
abbrev cX7_drift : ByteArray := prog_11_method_74_code
def yX7_drift : MethodName := ⟨RX7, "drift", "(III)I"⟩
def dkwX7_drift_9 : List UInt8 := [167, 255, 99, 29, 154, 0, 8, 21, 5, 167, 0, 5, 21, 6, 172]
abbrev dktX7_drift_9 : List UInt8 := dkwX7_drift_9 ++ []
def dkwX7_drift_8 : List UInt8 := [21, 9, 167, 0, 16, 42, 180, 0, 7, 17, 0, 164, 42, 180, 0, 145, 96, 46, 79, 132, 7, 1]
abbrev dktX7_drift_8 : List UInt8 := dkwX7_drift_8 ++ dktX7_drift_9
def dkwX7_drift_7 : List UInt8 := [42, 180, 0, 7, 17, 0, 164, 42, 180, 0, 145, 96, 42, 17, 0, 164, 21, 9, 182, 0, 189, 153, 0, 8]
abbrev dktX7_drift_7 : List UInt8 := dkwX7_drift_7 ++ dktX7_drift_8
def dkwX7_drift_6 : List UInt8 := [42, 180, 0, 7, 17, 0, 171, 42, 180, 0, 145, 96, 46, 154, 0, 7, 4, 167, 0, 4, 3, 96, 54, 6]
abbrev dktX7_drift_6 : List UInt8 := dkwX7_drift_6 ++ dktX7_drift_7
def dkwX7_drift_5 : List UInt8 := [17, 1, 64, 108, 16, 8, 112, 96, 54, 9, 42, 180, 0, 145, 16, 252, 159, 0, 75, 132, 5, 1, 21, 6]
abbrev dktX7_drift_5 : List UInt8 := dkwX7_drift_5 ++ dktX7_drift_6
def dkwX7_drift_4 : List UInt8 := [7, 108, 16, 8, 112, 3, 182, 0, 164, 16, 10, 21, 8, 16, 32, 108, 16, 10, 112, 104, 21, 8]
abbrev dktX7_drift_4 : List UInt8 := dkwX7_drift_4 ++ dktX7_drift_5
def dkwX7_drift_3 : List UInt8 := [21, 4, 16, 16, 122, 17, 127, 255, 126, 54, 8, 42, 17, 0, 164, 21, 8, 42, 180, 0, 129, 112, 21, 8]
abbrev dktX7_drift_3 : List UInt8 := dkwX7_drift_3 ++ dktX7_drift_4
def dkwX7_drift_2 : List UInt8 := [3, 54, 6, 3, 54, 7, 21, 7, 28, 162, 0, 157, 21, 4, 18, 246, 104, 17, 48, 57, 96, 54, 4]
abbrev dktX7_drift_2 : List UInt8 := dkwX7_drift_2 ++ dktX7_drift_3
def dkwX7_drift_1 : List UInt8 := [42, 180, 0, 129, 154, 0, 6, 16, 254, 172, 42, 3, 17, 0, 164, 182, 0, 218, 27, 54, 4, 3, 54, 5]
abbrev dktX7_drift_1 : List UInt8 := dkwX7_drift_1 ++ dktX7_drift_2
def dkwX7_drift_0 : List UInt8 := [28, 133, 10, 20, 0, 244, 184, 0, 49, 153, 0, 13, 29, 133, 9, 10, 184, 0, 49, 154, 0, 5, 2, 172]
abbrev dktX7_drift_0 : List UInt8 := dkwX7_drift_0 ++ dktX7_drift_1
theorem dksX7_drift_0 : cX7_drift.data.toList.drop 0 = dktX7_drift_0 := by decide +kernel
theorem dksX7_drift_1 : cX7_drift.data.toList.drop 24 = dktX7_drift_1 := dk_seg dksX7_drift_0 24 rfl rfl
theorem dksX7_drift_2 : cX7_drift.data.toList.drop 48 = dktX7_drift_2 := dk_seg dksX7_drift_1 24 rfl rfl
theorem dksX7_drift_3 : cX7_drift.data.toList.drop 71 = dktX7_drift_3 := dk_seg dksX7_drift_2 23 rfl rfl
theorem dksX7_drift_4 : cX7_drift.data.toList.drop 95 = dktX7_drift_4 := dk_seg dksX7_drift_3 24 rfl rfl
theorem dksX7_drift_5 : cX7_drift.data.toList.drop 117 = dktX7_drift_5 := dk_seg dksX7_drift_4 22 rfl rfl
theorem dksX7_drift_6 : cX7_drift.data.toList.drop 141 = dktX7_drift_6 := dk_seg dksX7_drift_5 24 rfl rfl
theorem dksX7_drift_7 : cX7_drift.data.toList.drop 165 = dktX7_drift_7 := dk_seg dksX7_drift_6 24 rfl rfl
theorem dksX7_drift_8 : cX7_drift.data.toList.drop 189 = dktX7_drift_8 := dk_seg dksX7_drift_7 24 rfl rfl
theorem dksX7_drift_9 : cX7_drift.data.toList.drop 211 = dktX7_drift_9 := dk_seg dksX7_drift_8 22 rfl rfl
theorem dX7_drift_0 : decode cX7_drift 0 = .ok (.iload_n 2, 1) := dk_28 (dk_at dksX7_drift_0 0 rfl rfl)
theorem dX7_drift_1 : decode cX7_drift 1 = .ok (.i2l, 1) := dk_133 (dk_at dksX7_drift_0 1 rfl rfl)
theorem dX7_drift_2 : decode cX7_drift 2 = .ok (.lconst 1, 1) := dk_10 (dk_at dksX7_drift_0 2 rfl rfl)
theorem dX7_drift_3 : decode cX7_drift 3 = .ok (.ldc2_w 244, 3) := dk_20 0 244 (dk_at dksX7_drift_0 3 rfl rfl)
theorem dX7_drift_6 : decode cX7_drift 6 = .ok (.invokestatic 49, 3) := dk_184 0 49 (dk_at dksX7_drift_0 6 rfl rfl)
theorem dX7_drift_9 : decode cX7_drift 9 = .ok (.ifCond .eq 13, 3) := dk_153 0 13 (dk_at dksX7_drift_0 9 rfl rfl)
theorem dX7_drift_12 : decode cX7_drift 12 = .ok (.iload_n 3, 1) := dk_29 (dk_at dksX7_drift_0 12 rfl rfl)
theorem dX7_drift_13 : decode cX7_drift 13 = .ok (.i2l, 1) := dk_133 (dk_at dksX7_drift_0 13 rfl rfl)
theorem dX7_drift_14 : decode cX7_drift 14 = .ok (.lconst 0, 1) := dk_9 (dk_at dksX7_drift_0 14 rfl rfl)
theorem dX7_drift_15 : decode cX7_drift 15 = .ok (.lconst 1, 1) := dk_10 (dk_at dksX7_drift_0 15 rfl rfl)
theorem dX7_drift_16 : decode cX7_drift 16 = .ok (.invokestatic 49, 3) := dk_184 0 49 (dk_at dksX7_drift_0 16 rfl rfl)
theorem dX7_drift_19 : decode cX7_drift 19 = .ok (.ifCond .ne 5, 3) := dk_154 0 5 (dk_at dksX7_drift_0 19 rfl rfl)
theorem dX7_drift_22 : decode cX7_drift 22 = .ok (.iconst (-1), 1) := dk_2 (dk_at dksX7_drift_0 22 rfl rfl)
theorem dX7_drift_23 : decode cX7_drift 23 = .ok (.ireturn, 1) := dk_172 (dk_at dksX7_drift_0 23 rfl rfl)
theorem dX7_drift_24 : decode cX7_drift 24 = .ok (.aload_n 0, 1) := dk_42 (dk_at dksX7_drift_1 0 rfl rfl)
theorem dX7_drift_25 : decode cX7_drift 25 = .ok (.getfield 129, 3) := dk_180 0 129 (dk_at dksX7_drift_1 1 rfl rfl)
theorem dX7_drift_28 : decode cX7_drift 28 = .ok (.ifCond .ne 6, 3) := dk_154 0 6 (dk_at dksX7_drift_1 4 rfl rfl)
theorem dX7_drift_31 : decode cX7_drift 31 = .ok (.bipush (-2), 2) := dk_16 254 (dk_at dksX7_drift_1 7 rfl rfl)
theorem dX7_drift_33 : decode cX7_drift 33 = .ok (.ireturn, 1) := dk_172 (dk_at dksX7_drift_1 9 rfl rfl)
theorem dX7_drift_34 : decode cX7_drift 34 = .ok (.aload_n 0, 1) := dk_42 (dk_at dksX7_drift_1 10 rfl rfl)
theorem dX7_drift_35 : decode cX7_drift 35 = .ok (.iconst 0, 1) := dk_3 (dk_at dksX7_drift_1 11 rfl rfl)
theorem dX7_drift_36 : decode cX7_drift 36 = .ok (.sipush 164, 3) := dk_17 0 164 (dk_at dksX7_drift_1 12 rfl rfl)
theorem dX7_drift_39 : decode cX7_drift 39 = .ok (.invokevirtual 218, 3) := dk_182 0 218 (dk_at dksX7_drift_1 15 rfl rfl)
theorem dX7_drift_42 : decode cX7_drift 42 = .ok (.iload_n 1, 1) := dk_27 (dk_at dksX7_drift_1 18 rfl rfl)
theorem dX7_drift_43 : decode cX7_drift 43 = .ok (.istore 4, 2) := dk_54 4 (dk_at dksX7_drift_1 19 rfl rfl)
theorem dX7_drift_45 : decode cX7_drift 45 = .ok (.iconst 0, 1) := dk_3 (dk_at dksX7_drift_1 21 rfl rfl)
theorem dX7_drift_46 : decode cX7_drift 46 = .ok (.istore 5, 2) := dk_54 5 (dk_at dksX7_drift_1 22 rfl rfl)
theorem dX7_drift_48 : decode cX7_drift 48 = .ok (.iconst 0, 1) := dk_3 (dk_at dksX7_drift_2 0 rfl rfl)
theorem dX7_drift_49 : decode cX7_drift 49 = .ok (.istore 6, 2) := dk_54 6 (dk_at dksX7_drift_2 1 rfl rfl)
theorem dX7_drift_51 : decode cX7_drift 51 = .ok (.iconst 0, 1) := dk_3 (dk_at dksX7_drift_2 3 rfl rfl)
theorem dX7_drift_52 : decode cX7_drift 52 = .ok (.istore 7, 2) := dk_54 7 (dk_at dksX7_drift_2 4 rfl rfl)
theorem dX7_drift_54 : decode cX7_drift 54 = .ok (.iload 7, 2) := dk_21 7 (dk_at dksX7_drift_2 6 rfl rfl)
theorem dX7_drift_56 : decode cX7_drift 56 = .ok (.iload_n 2, 1) := dk_28 (dk_at dksX7_drift_2 8 rfl rfl)
theorem dX7_drift_57 : decode cX7_drift 57 = .ok (.if_icmp .ge 157, 3) := dk_162 0 157 (dk_at dksX7_drift_2 9 rfl rfl)
theorem dX7_drift_60 : decode cX7_drift 60 = .ok (.iload 4, 2) := dk_21 4 (dk_at dksX7_drift_2 12 rfl rfl)
theorem dX7_drift_62 : decode cX7_drift 62 = .ok (.ldc 246, 2) := dk_18 246 (dk_at dksX7_drift_2 14 rfl rfl)
theorem dX7_drift_64 : decode cX7_drift 64 = .ok (.imul, 1) := dk_104 (dk_at dksX7_drift_2 16 rfl rfl)
theorem dX7_drift_65 : decode cX7_drift 65 = .ok (.sipush 12345, 3) := dk_17 48 57 (dk_at dksX7_drift_2 17 rfl rfl)
theorem dX7_drift_68 : decode cX7_drift 68 = .ok (.iadd, 1) := dk_96 (dk_at dksX7_drift_2 20 rfl rfl)
theorem dX7_drift_69 : decode cX7_drift 69 = .ok (.istore 4, 2) := dk_54 4 (dk_at dksX7_drift_2 21 rfl rfl)
theorem dX7_drift_71 : decode cX7_drift 71 = .ok (.iload 4, 2) := dk_21 4 (dk_at dksX7_drift_3 0 rfl rfl)
theorem dX7_drift_73 : decode cX7_drift 73 = .ok (.bipush 16, 2) := dk_16 16 (dk_at dksX7_drift_3 2 rfl rfl)
theorem dX7_drift_75 : decode cX7_drift 75 = .ok (.ishr, 1) := dk_122 (dk_at dksX7_drift_3 4 rfl rfl)
theorem dX7_drift_76 : decode cX7_drift 76 = .ok (.sipush 32767, 3) := dk_17 127 255 (dk_at dksX7_drift_3 5 rfl rfl)
theorem dX7_drift_79 : decode cX7_drift 79 = .ok (.iand, 1) := dk_126 (dk_at dksX7_drift_3 8 rfl rfl)
theorem dX7_drift_80 : decode cX7_drift 80 = .ok (.istore 8, 2) := dk_54 8 (dk_at dksX7_drift_3 9 rfl rfl)
theorem dX7_drift_82 : decode cX7_drift 82 = .ok (.aload_n 0, 1) := dk_42 (dk_at dksX7_drift_3 11 rfl rfl)
theorem dX7_drift_83 : decode cX7_drift 83 = .ok (.sipush 164, 3) := dk_17 0 164 (dk_at dksX7_drift_3 12 rfl rfl)
theorem dX7_drift_86 : decode cX7_drift 86 = .ok (.iload 8, 2) := dk_21 8 (dk_at dksX7_drift_3 15 rfl rfl)
theorem dX7_drift_88 : decode cX7_drift 88 = .ok (.aload_n 0, 1) := dk_42 (dk_at dksX7_drift_3 17 rfl rfl)
theorem dX7_drift_89 : decode cX7_drift 89 = .ok (.getfield 129, 3) := dk_180 0 129 (dk_at dksX7_drift_3 18 rfl rfl)
theorem dX7_drift_92 : decode cX7_drift 92 = .ok (.irem, 1) := dk_112 (dk_at dksX7_drift_3 21 rfl rfl)
theorem dX7_drift_93 : decode cX7_drift 93 = .ok (.iload 8, 2) := dk_21 8 (dk_at dksX7_drift_3 22 rfl rfl)
theorem dX7_drift_95 : decode cX7_drift 95 = .ok (.iconst 4, 1) := dk_7 (dk_at dksX7_drift_4 0 rfl rfl)
theorem dX7_drift_96 : decode cX7_drift 96 = .ok (.idiv, 1) := dk_108 (dk_at dksX7_drift_4 1 rfl rfl)
theorem dX7_drift_97 : decode cX7_drift 97 = .ok (.bipush 8, 2) := dk_16 8 (dk_at dksX7_drift_4 2 rfl rfl)
theorem dX7_drift_99 : decode cX7_drift 99 = .ok (.irem, 1) := dk_112 (dk_at dksX7_drift_4 4 rfl rfl)
theorem dX7_drift_100 : decode cX7_drift 100 = .ok (.iconst 0, 1) := dk_3 (dk_at dksX7_drift_4 5 rfl rfl)
theorem dX7_drift_101 : decode cX7_drift 101 = .ok (.invokevirtual 164, 3) := dk_182 0 164 (dk_at dksX7_drift_4 6 rfl rfl)
theorem dX7_drift_104 : decode cX7_drift 104 = .ok (.bipush 10, 2) := dk_16 10 (dk_at dksX7_drift_4 9 rfl rfl)
theorem dX7_drift_106 : decode cX7_drift 106 = .ok (.iload 8, 2) := dk_21 8 (dk_at dksX7_drift_4 11 rfl rfl)
theorem dX7_drift_108 : decode cX7_drift 108 = .ok (.bipush 32, 2) := dk_16 32 (dk_at dksX7_drift_4 13 rfl rfl)
theorem dX7_drift_110 : decode cX7_drift 110 = .ok (.idiv, 1) := dk_108 (dk_at dksX7_drift_4 15 rfl rfl)
theorem dX7_drift_111 : decode cX7_drift 111 = .ok (.bipush 10, 2) := dk_16 10 (dk_at dksX7_drift_4 16 rfl rfl)
theorem dX7_drift_113 : decode cX7_drift 113 = .ok (.irem, 1) := dk_112 (dk_at dksX7_drift_4 18 rfl rfl)
theorem dX7_drift_114 : decode cX7_drift 114 = .ok (.imul, 1) := dk_104 (dk_at dksX7_drift_4 19 rfl rfl)
theorem dX7_drift_115 : decode cX7_drift 115 = .ok (.iload 8, 2) := dk_21 8 (dk_at dksX7_drift_4 20 rfl rfl)
theorem dX7_drift_117 : decode cX7_drift 117 = .ok (.sipush 320, 3) := dk_17 1 64 (dk_at dksX7_drift_5 0 rfl rfl)
theorem dX7_drift_120 : decode cX7_drift 120 = .ok (.idiv, 1) := dk_108 (dk_at dksX7_drift_5 3 rfl rfl)
theorem dX7_drift_121 : decode cX7_drift 121 = .ok (.bipush 8, 2) := dk_16 8 (dk_at dksX7_drift_5 4 rfl rfl)
theorem dX7_drift_123 : decode cX7_drift 123 = .ok (.irem, 1) := dk_112 (dk_at dksX7_drift_5 6 rfl rfl)
theorem dX7_drift_124 : decode cX7_drift 124 = .ok (.iadd, 1) := dk_96 (dk_at dksX7_drift_5 7 rfl rfl)
theorem dX7_drift_125 : decode cX7_drift 125 = .ok (.istore 9, 2) := dk_54 9 (dk_at dksX7_drift_5 8 rfl rfl)
theorem dX7_drift_127 : decode cX7_drift 127 = .ok (.aload_n 0, 1) := dk_42 (dk_at dksX7_drift_5 10 rfl rfl)
theorem dX7_drift_128 : decode cX7_drift 128 = .ok (.getfield 145, 3) := dk_180 0 145 (dk_at dksX7_drift_5 11 rfl rfl)
theorem dX7_drift_131 : decode cX7_drift 131 = .ok (.bipush (-4), 2) := dk_16 252 (dk_at dksX7_drift_5 14 rfl rfl)
theorem dX7_drift_133 : decode cX7_drift 133 = .ok (.if_icmp .eq 75, 3) := dk_159 0 75 (dk_at dksX7_drift_5 16 rfl rfl)
theorem dX7_drift_136 : decode cX7_drift 136 = .ok (.iinc 5 1, 3) := dk_132 5 1 (dk_at dksX7_drift_5 19 rfl rfl)
theorem dX7_drift_139 : decode cX7_drift 139 = .ok (.iload 6, 2) := dk_21 6 (dk_at dksX7_drift_5 22 rfl rfl)
theorem dX7_drift_141 : decode cX7_drift 141 = .ok (.aload_n 0, 1) := dk_42 (dk_at dksX7_drift_6 0 rfl rfl)
theorem dX7_drift_142 : decode cX7_drift 142 = .ok (.getfield 7, 3) := dk_180 0 7 (dk_at dksX7_drift_6 1 rfl rfl)
theorem dX7_drift_145 : decode cX7_drift 145 = .ok (.sipush 171, 3) := dk_17 0 171 (dk_at dksX7_drift_6 4 rfl rfl)
theorem dX7_drift_148 : decode cX7_drift 148 = .ok (.aload_n 0, 1) := dk_42 (dk_at dksX7_drift_6 7 rfl rfl)
theorem dX7_drift_149 : decode cX7_drift 149 = .ok (.getfield 145, 3) := dk_180 0 145 (dk_at dksX7_drift_6 8 rfl rfl)
theorem dX7_drift_152 : decode cX7_drift 152 = .ok (.iadd, 1) := dk_96 (dk_at dksX7_drift_6 11 rfl rfl)
theorem dX7_drift_153 : decode cX7_drift 153 = .ok (.iaload, 1) := dk_46 (dk_at dksX7_drift_6 12 rfl rfl)
theorem dX7_drift_154 : decode cX7_drift 154 = .ok (.ifCond .ne 7, 3) := dk_154 0 7 (dk_at dksX7_drift_6 13 rfl rfl)
theorem dX7_drift_157 : decode cX7_drift 157 = .ok (.iconst 1, 1) := dk_4 (dk_at dksX7_drift_6 16 rfl rfl)
theorem dX7_drift_158 : decode cX7_drift 158 = .ok (.goto 4, 3) := dk_167 0 4 (dk_at dksX7_drift_6 17 rfl rfl)
theorem dX7_drift_161 : decode cX7_drift 161 = .ok (.iconst 0, 1) := dk_3 (dk_at dksX7_drift_6 20 rfl rfl)
theorem dX7_drift_162 : decode cX7_drift 162 = .ok (.iadd, 1) := dk_96 (dk_at dksX7_drift_6 21 rfl rfl)
theorem dX7_drift_163 : decode cX7_drift 163 = .ok (.istore 6, 2) := dk_54 6 (dk_at dksX7_drift_6 22 rfl rfl)
theorem dX7_drift_165 : decode cX7_drift 165 = .ok (.aload_n 0, 1) := dk_42 (dk_at dksX7_drift_7 0 rfl rfl)
theorem dX7_drift_166 : decode cX7_drift 166 = .ok (.getfield 7, 3) := dk_180 0 7 (dk_at dksX7_drift_7 1 rfl rfl)
theorem dX7_drift_169 : decode cX7_drift 169 = .ok (.sipush 164, 3) := dk_17 0 164 (dk_at dksX7_drift_7 4 rfl rfl)
theorem dX7_drift_172 : decode cX7_drift 172 = .ok (.aload_n 0, 1) := dk_42 (dk_at dksX7_drift_7 7 rfl rfl)
theorem dX7_drift_173 : decode cX7_drift 173 = .ok (.getfield 145, 3) := dk_180 0 145 (dk_at dksX7_drift_7 8 rfl rfl)
theorem dX7_drift_176 : decode cX7_drift 176 = .ok (.iadd, 1) := dk_96 (dk_at dksX7_drift_7 11 rfl rfl)
theorem dX7_drift_177 : decode cX7_drift 177 = .ok (.aload_n 0, 1) := dk_42 (dk_at dksX7_drift_7 12 rfl rfl)
theorem dX7_drift_178 : decode cX7_drift 178 = .ok (.sipush 164, 3) := dk_17 0 164 (dk_at dksX7_drift_7 13 rfl rfl)
theorem dX7_drift_181 : decode cX7_drift 181 = .ok (.iload 9, 2) := dk_21 9 (dk_at dksX7_drift_7 16 rfl rfl)
theorem dX7_drift_183 : decode cX7_drift 183 = .ok (.invokevirtual 189, 3) := dk_182 0 189 (dk_at dksX7_drift_7 18 rfl rfl)
theorem dX7_drift_186 : decode cX7_drift 186 = .ok (.ifCond .eq 8, 3) := dk_153 0 8 (dk_at dksX7_drift_7 21 rfl rfl)
theorem dX7_drift_189 : decode cX7_drift 189 = .ok (.iload 9, 2) := dk_21 9 (dk_at dksX7_drift_8 0 rfl rfl)
theorem dX7_drift_191 : decode cX7_drift 191 = .ok (.goto 16, 3) := dk_167 0 16 (dk_at dksX7_drift_8 2 rfl rfl)
theorem dX7_drift_194 : decode cX7_drift 194 = .ok (.aload_n 0, 1) := dk_42 (dk_at dksX7_drift_8 5 rfl rfl)
theorem dX7_drift_195 : decode cX7_drift 195 = .ok (.getfield 7, 3) := dk_180 0 7 (dk_at dksX7_drift_8 6 rfl rfl)
theorem dX7_drift_198 : decode cX7_drift 198 = .ok (.sipush 164, 3) := dk_17 0 164 (dk_at dksX7_drift_8 9 rfl rfl)
theorem dX7_drift_201 : decode cX7_drift 201 = .ok (.aload_n 0, 1) := dk_42 (dk_at dksX7_drift_8 12 rfl rfl)
theorem dX7_drift_202 : decode cX7_drift 202 = .ok (.getfield 145, 3) := dk_180 0 145 (dk_at dksX7_drift_8 13 rfl rfl)
theorem dX7_drift_205 : decode cX7_drift 205 = .ok (.iadd, 1) := dk_96 (dk_at dksX7_drift_8 16 rfl rfl)
theorem dX7_drift_206 : decode cX7_drift 206 = .ok (.iaload, 1) := dk_46 (dk_at dksX7_drift_8 17 rfl rfl)
theorem dX7_drift_207 : decode cX7_drift 207 = .ok (.iastore, 1) := dk_79 (dk_at dksX7_drift_8 18 rfl rfl)
theorem dX7_drift_208 : decode cX7_drift 208 = .ok (.iinc 7 1, 3) := dk_132 7 1 (dk_at dksX7_drift_8 19 rfl rfl)
theorem dX7_drift_211 : decode cX7_drift 211 = .ok (.goto (-157), 3) := dk_167 255 99 (dk_at dksX7_drift_9 0 rfl rfl)
theorem dX7_drift_214 : decode cX7_drift 214 = .ok (.iload_n 3, 1) := dk_29 (dk_at dksX7_drift_9 3 rfl rfl)
theorem dX7_drift_215 : decode cX7_drift 215 = .ok (.ifCond .ne 8, 3) := dk_154 0 8 (dk_at dksX7_drift_9 4 rfl rfl)
theorem dX7_drift_218 : decode cX7_drift 218 = .ok (.iload 5, 2) := dk_21 5 (dk_at dksX7_drift_9 7 rfl rfl)
theorem dX7_drift_220 : decode cX7_drift 220 = .ok (.goto 5, 3) := dk_167 0 5 (dk_at dksX7_drift_9 9 rfl rfl)
theorem dX7_drift_223 : decode cX7_drift 223 = .ok (.iload 6, 2) := dk_21 6 (dk_at dksX7_drift_9 12 rfl rfl)
theorem dX7_drift_225 : decode cX7_drift 225 = .ok (.ireturn, 1) := dk_172 (dk_at dksX7_drift_9 14 rfl rfl)
abbrev cX7_keep : ByteArray := prog_11_method_75_code
def yX7_keep : MethodName := ⟨RX7, "keep", "(I)I"⟩
def dkwX7_keep_1 : List UInt8 := [180, 0, 34, 27, 51, 153, 0, 7, 4, 167, 0, 4, 3, 61, 42, 180, 0, 34, 27, 4, 84, 28, 172]
abbrev dktX7_keep_1 : List UInt8 := dkwX7_keep_1 ++ []
def dkwX7_keep_0 : List UInt8 := [27, 133, 9, 10, 184, 0, 49, 154, 0, 5, 2, 172, 42, 3, 16, 41, 27, 4, 96, 104, 182, 0, 218, 42]
abbrev dktX7_keep_0 : List UInt8 := dkwX7_keep_0 ++ dktX7_keep_1
theorem dksX7_keep_0 : cX7_keep.data.toList.drop 0 = dktX7_keep_0 := by decide +kernel
theorem dksX7_keep_1 : cX7_keep.data.toList.drop 24 = dktX7_keep_1 := dk_seg dksX7_keep_0 24 rfl rfl
theorem dX7_keep_0 : decode cX7_keep 0 = .ok (.iload_n 1, 1) := dk_27 (dk_at dksX7_keep_0 0 rfl rfl)
theorem dX7_keep_1 : decode cX7_keep 1 = .ok (.i2l, 1) := dk_133 (dk_at dksX7_keep_0 1 rfl rfl)
theorem dX7_keep_2 : decode cX7_keep 2 = .ok (.lconst 0, 1) := dk_9 (dk_at dksX7_keep_0 2 rfl rfl)
theorem dX7_keep_3 : decode cX7_keep 3 = .ok (.lconst 1, 1) := dk_10 (dk_at dksX7_keep_0 3 rfl rfl)
theorem dX7_keep_4 : decode cX7_keep 4 = .ok (.invokestatic 49, 3) := dk_184 0 49 (dk_at dksX7_keep_0 4 rfl rfl)
theorem dX7_keep_7 : decode cX7_keep 7 = .ok (.ifCond .ne 5, 3) := dk_154 0 5 (dk_at dksX7_keep_0 7 rfl rfl)
theorem dX7_keep_10 : decode cX7_keep 10 = .ok (.iconst (-1), 1) := dk_2 (dk_at dksX7_keep_0 10 rfl rfl)
theorem dX7_keep_11 : decode cX7_keep 11 = .ok (.ireturn, 1) := dk_172 (dk_at dksX7_keep_0 11 rfl rfl)
theorem dX7_keep_12 : decode cX7_keep 12 = .ok (.aload_n 0, 1) := dk_42 (dk_at dksX7_keep_0 12 rfl rfl)
theorem dX7_keep_13 : decode cX7_keep 13 = .ok (.iconst 0, 1) := dk_3 (dk_at dksX7_keep_0 13 rfl rfl)
theorem dX7_keep_14 : decode cX7_keep 14 = .ok (.bipush 41, 2) := dk_16 41 (dk_at dksX7_keep_0 14 rfl rfl)
theorem dX7_keep_16 : decode cX7_keep 16 = .ok (.iload_n 1, 1) := dk_27 (dk_at dksX7_keep_0 16 rfl rfl)
theorem dX7_keep_17 : decode cX7_keep 17 = .ok (.iconst 1, 1) := dk_4 (dk_at dksX7_keep_0 17 rfl rfl)
theorem dX7_keep_18 : decode cX7_keep 18 = .ok (.iadd, 1) := dk_96 (dk_at dksX7_keep_0 18 rfl rfl)
theorem dX7_keep_19 : decode cX7_keep 19 = .ok (.imul, 1) := dk_104 (dk_at dksX7_keep_0 19 rfl rfl)
theorem dX7_keep_20 : decode cX7_keep 20 = .ok (.invokevirtual 218, 3) := dk_182 0 218 (dk_at dksX7_keep_0 20 rfl rfl)
theorem dX7_keep_23 : decode cX7_keep 23 = .ok (.aload_n 0, 1) := dk_42 (dk_at dksX7_keep_0 23 rfl rfl)
theorem dX7_keep_24 : decode cX7_keep 24 = .ok (.getfield 34, 3) := dk_180 0 34 (dk_at dksX7_keep_1 0 rfl rfl)
theorem dX7_keep_27 : decode cX7_keep 27 = .ok (.iload_n 1, 1) := dk_27 (dk_at dksX7_keep_1 3 rfl rfl)
theorem dX7_keep_28 : decode cX7_keep 28 = .ok (.baload, 1) := dk_51 (dk_at dksX7_keep_1 4 rfl rfl)
theorem dX7_keep_29 : decode cX7_keep 29 = .ok (.ifCond .eq 7, 3) := dk_153 0 7 (dk_at dksX7_keep_1 5 rfl rfl)
theorem dX7_keep_32 : decode cX7_keep 32 = .ok (.iconst 1, 1) := dk_4 (dk_at dksX7_keep_1 8 rfl rfl)
theorem dX7_keep_33 : decode cX7_keep 33 = .ok (.goto 4, 3) := dk_167 0 4 (dk_at dksX7_keep_1 9 rfl rfl)
theorem dX7_keep_36 : decode cX7_keep 36 = .ok (.iconst 0, 1) := dk_3 (dk_at dksX7_keep_1 12 rfl rfl)
theorem dX7_keep_37 : decode cX7_keep 37 = .ok (.istore_n 2, 1) := dk_61 (dk_at dksX7_keep_1 13 rfl rfl)
theorem dX7_keep_38 : decode cX7_keep 38 = .ok (.aload_n 0, 1) := dk_42 (dk_at dksX7_keep_1 14 rfl rfl)
theorem dX7_keep_39 : decode cX7_keep 39 = .ok (.getfield 34, 3) := dk_180 0 34 (dk_at dksX7_keep_1 15 rfl rfl)
theorem dX7_keep_42 : decode cX7_keep 42 = .ok (.iload_n 1, 1) := dk_27 (dk_at dksX7_keep_1 18 rfl rfl)
theorem dX7_keep_43 : decode cX7_keep 43 = .ok (.iconst 1, 1) := dk_4 (dk_at dksX7_keep_1 19 rfl rfl)
theorem dX7_keep_44 : decode cX7_keep 44 = .ok (.bastore, 1) := dk_84 (dk_at dksX7_keep_1 20 rfl rfl)
theorem dX7_keep_45 : decode cX7_keep 45 = .ok (.iload_n 2, 1) := dk_28 (dk_at dksX7_keep_1 21 rfl rfl)
theorem dX7_keep_46 : decode cX7_keep 46 = .ok (.ireturn, 1) := dk_172 (dk_at dksX7_keep_1 22 rfl rfl)
abbrev cX7_back : ByteArray := prog_11_method_76_code
def yX7_back : MethodName := ⟨RX7, "back", "(I)I"⟩
def dkwX7_back_1 : List UInt8 := [42, 16, 41, 27, 4, 96, 104, 3, 182, 0, 218, 42, 3, 16, 252, 182, 0, 172, 184, 0, 221, 172]
abbrev dktX7_back_1 : List UInt8 := dkwX7_back_1 ++ []
def dkwX7_back_0 : List UInt8 := [27, 133, 9, 10, 184, 0, 49, 154, 0, 5, 2, 172, 42, 180, 0, 34, 27, 51, 154, 0, 6, 16, 254, 172]
abbrev dktX7_back_0 : List UInt8 := dkwX7_back_0 ++ dktX7_back_1
theorem dksX7_back_0 : cX7_back.data.toList.drop 0 = dktX7_back_0 := by decide +kernel
theorem dksX7_back_1 : cX7_back.data.toList.drop 24 = dktX7_back_1 := dk_seg dksX7_back_0 24 rfl rfl
theorem dX7_back_0 : decode cX7_back 0 = .ok (.iload_n 1, 1) := dk_27 (dk_at dksX7_back_0 0 rfl rfl)
theorem dX7_back_1 : decode cX7_back 1 = .ok (.i2l, 1) := dk_133 (dk_at dksX7_back_0 1 rfl rfl)
theorem dX7_back_2 : decode cX7_back 2 = .ok (.lconst 0, 1) := dk_9 (dk_at dksX7_back_0 2 rfl rfl)
theorem dX7_back_3 : decode cX7_back 3 = .ok (.lconst 1, 1) := dk_10 (dk_at dksX7_back_0 3 rfl rfl)
theorem dX7_back_4 : decode cX7_back 4 = .ok (.invokestatic 49, 3) := dk_184 0 49 (dk_at dksX7_back_0 4 rfl rfl)
theorem dX7_back_7 : decode cX7_back 7 = .ok (.ifCond .ne 5, 3) := dk_154 0 5 (dk_at dksX7_back_0 7 rfl rfl)
theorem dX7_back_10 : decode cX7_back 10 = .ok (.iconst (-1), 1) := dk_2 (dk_at dksX7_back_0 10 rfl rfl)
theorem dX7_back_11 : decode cX7_back 11 = .ok (.ireturn, 1) := dk_172 (dk_at dksX7_back_0 11 rfl rfl)
theorem dX7_back_12 : decode cX7_back 12 = .ok (.aload_n 0, 1) := dk_42 (dk_at dksX7_back_0 12 rfl rfl)
theorem dX7_back_13 : decode cX7_back 13 = .ok (.getfield 34, 3) := dk_180 0 34 (dk_at dksX7_back_0 13 rfl rfl)
theorem dX7_back_16 : decode cX7_back 16 = .ok (.iload_n 1, 1) := dk_27 (dk_at dksX7_back_0 16 rfl rfl)
theorem dX7_back_17 : decode cX7_back 17 = .ok (.baload, 1) := dk_51 (dk_at dksX7_back_0 17 rfl rfl)
theorem dX7_back_18 : decode cX7_back 18 = .ok (.ifCond .ne 6, 3) := dk_154 0 6 (dk_at dksX7_back_0 18 rfl rfl)
theorem dX7_back_21 : decode cX7_back 21 = .ok (.bipush (-2), 2) := dk_16 254 (dk_at dksX7_back_0 21 rfl rfl)
theorem dX7_back_23 : decode cX7_back 23 = .ok (.ireturn, 1) := dk_172 (dk_at dksX7_back_0 23 rfl rfl)
theorem dX7_back_24 : decode cX7_back 24 = .ok (.aload_n 0, 1) := dk_42 (dk_at dksX7_back_1 0 rfl rfl)
theorem dX7_back_25 : decode cX7_back 25 = .ok (.bipush 41, 2) := dk_16 41 (dk_at dksX7_back_1 1 rfl rfl)
theorem dX7_back_27 : decode cX7_back 27 = .ok (.iload_n 1, 1) := dk_27 (dk_at dksX7_back_1 3 rfl rfl)
theorem dX7_back_28 : decode cX7_back 28 = .ok (.iconst 1, 1) := dk_4 (dk_at dksX7_back_1 4 rfl rfl)
theorem dX7_back_29 : decode cX7_back 29 = .ok (.iadd, 1) := dk_96 (dk_at dksX7_back_1 5 rfl rfl)
theorem dX7_back_30 : decode cX7_back 30 = .ok (.imul, 1) := dk_104 (dk_at dksX7_back_1 6 rfl rfl)
theorem dX7_back_31 : decode cX7_back 31 = .ok (.iconst 0, 1) := dk_3 (dk_at dksX7_back_1 7 rfl rfl)
theorem dX7_back_32 : decode cX7_back 32 = .ok (.invokevirtual 218, 3) := dk_182 0 218 (dk_at dksX7_back_1 8 rfl rfl)
theorem dX7_back_35 : decode cX7_back 35 = .ok (.aload_n 0, 1) := dk_42 (dk_at dksX7_back_1 11 rfl rfl)
theorem dX7_back_36 : decode cX7_back 36 = .ok (.iconst 0, 1) := dk_3 (dk_at dksX7_back_1 12 rfl rfl)
theorem dX7_back_37 : decode cX7_back 37 = .ok (.bipush (-4), 2) := dk_16 252 (dk_at dksX7_back_1 13 rfl rfl)
theorem dX7_back_39 : decode cX7_back 39 = .ok (.invokevirtual 172, 3) := dk_182 0 172 (dk_at dksX7_back_1 15 rfl rfl)
theorem dX7_back_42 : decode cX7_back 42 = .ok (.invokestatic 221, 3) := dk_184 0 221 (dk_at dksX7_back_1 18 rfl rfl)
theorem dX7_back_45 : decode cX7_back 45 = .ok (.ireturn, 1) := dk_172 (dk_at dksX7_back_1 21 rfl rfl)
abbrev cX7_sheet : ByteArray := prog_11_method_77_code
def yX7_sheet : MethodName := ⟨RX7, "sheet", "(III)I"⟩
def dkwX7_sheet_3 : List UInt8 := [21, 4, 96, 3, 79, 132, 4, 1, 167, 255, 233, 4, 172]
abbrev dktX7_sheet_3 : List UInt8 := dkwX7_sheet_3 ++ []
def dkwX7_sheet_2 : List UInt8 := [180, 0, 41, 27, 29, 79, 3, 54, 4, 21, 4, 16, 40, 162, 0, 22, 42, 180, 0, 44, 16, 40, 27, 104]
abbrev dktX7_sheet_2 : List UInt8 := dkwX7_sheet_2 ++ dktX7_sheet_3
def dkwX7_sheet_1 : List UInt8 := [29, 16, 40, 164, 0, 5, 2, 172, 29, 156, 0, 6, 16, 242, 172, 42, 180, 0, 38, 27, 28, 79, 42]
abbrev dktX7_sheet_1 : List UInt8 := dkwX7_sheet_1 ++ dktX7_sheet_2
def dkwX7_sheet_0 : List UInt8 := [27, 133, 9, 20, 0, 137, 184, 0, 49, 153, 0, 21, 28, 133, 9, 20, 0, 178, 184, 0, 49, 153, 0, 9]
abbrev dktX7_sheet_0 : List UInt8 := dkwX7_sheet_0 ++ dktX7_sheet_1
theorem dksX7_sheet_0 : cX7_sheet.data.toList.drop 0 = dktX7_sheet_0 := by decide +kernel
theorem dksX7_sheet_1 : cX7_sheet.data.toList.drop 24 = dktX7_sheet_1 := dk_seg dksX7_sheet_0 24 rfl rfl
theorem dksX7_sheet_2 : cX7_sheet.data.toList.drop 47 = dktX7_sheet_2 := dk_seg dksX7_sheet_1 23 rfl rfl
theorem dksX7_sheet_3 : cX7_sheet.data.toList.drop 71 = dktX7_sheet_3 := dk_seg dksX7_sheet_2 24 rfl rfl
theorem dX7_sheet_0 : decode cX7_sheet 0 = .ok (.iload_n 1, 1) := dk_27 (dk_at dksX7_sheet_0 0 rfl rfl)
theorem dX7_sheet_1 : decode cX7_sheet 1 = .ok (.i2l, 1) := dk_133 (dk_at dksX7_sheet_0 1 rfl rfl)
theorem dX7_sheet_2 : decode cX7_sheet 2 = .ok (.lconst 0, 1) := dk_9 (dk_at dksX7_sheet_0 2 rfl rfl)
theorem dX7_sheet_3 : decode cX7_sheet 3 = .ok (.ldc2_w 137, 3) := dk_20 0 137 (dk_at dksX7_sheet_0 3 rfl rfl)
theorem dX7_sheet_6 : decode cX7_sheet 6 = .ok (.invokestatic 49, 3) := dk_184 0 49 (dk_at dksX7_sheet_0 6 rfl rfl)
theorem dX7_sheet_9 : decode cX7_sheet 9 = .ok (.ifCond .eq 21, 3) := dk_153 0 21 (dk_at dksX7_sheet_0 9 rfl rfl)
theorem dX7_sheet_12 : decode cX7_sheet 12 = .ok (.iload_n 2, 1) := dk_28 (dk_at dksX7_sheet_0 12 rfl rfl)
theorem dX7_sheet_13 : decode cX7_sheet 13 = .ok (.i2l, 1) := dk_133 (dk_at dksX7_sheet_0 13 rfl rfl)
theorem dX7_sheet_14 : decode cX7_sheet 14 = .ok (.lconst 0, 1) := dk_9 (dk_at dksX7_sheet_0 14 rfl rfl)
theorem dX7_sheet_15 : decode cX7_sheet 15 = .ok (.ldc2_w 178, 3) := dk_20 0 178 (dk_at dksX7_sheet_0 15 rfl rfl)
theorem dX7_sheet_18 : decode cX7_sheet 18 = .ok (.invokestatic 49, 3) := dk_184 0 49 (dk_at dksX7_sheet_0 18 rfl rfl)
theorem dX7_sheet_21 : decode cX7_sheet 21 = .ok (.ifCond .eq 9, 3) := dk_153 0 9 (dk_at dksX7_sheet_0 21 rfl rfl)
theorem dX7_sheet_24 : decode cX7_sheet 24 = .ok (.iload_n 3, 1) := dk_29 (dk_at dksX7_sheet_1 0 rfl rfl)
theorem dX7_sheet_25 : decode cX7_sheet 25 = .ok (.bipush 40, 2) := dk_16 40 (dk_at dksX7_sheet_1 1 rfl rfl)
theorem dX7_sheet_27 : decode cX7_sheet 27 = .ok (.if_icmp .le 5, 3) := dk_164 0 5 (dk_at dksX7_sheet_1 3 rfl rfl)
theorem dX7_sheet_30 : decode cX7_sheet 30 = .ok (.iconst (-1), 1) := dk_2 (dk_at dksX7_sheet_1 6 rfl rfl)
theorem dX7_sheet_31 : decode cX7_sheet 31 = .ok (.ireturn, 1) := dk_172 (dk_at dksX7_sheet_1 7 rfl rfl)
theorem dX7_sheet_32 : decode cX7_sheet 32 = .ok (.iload_n 3, 1) := dk_29 (dk_at dksX7_sheet_1 8 rfl rfl)
theorem dX7_sheet_33 : decode cX7_sheet 33 = .ok (.ifCond .ge 6, 3) := dk_156 0 6 (dk_at dksX7_sheet_1 9 rfl rfl)
theorem dX7_sheet_36 : decode cX7_sheet 36 = .ok (.bipush (-14), 2) := dk_16 242 (dk_at dksX7_sheet_1 12 rfl rfl)
theorem dX7_sheet_38 : decode cX7_sheet 38 = .ok (.ireturn, 1) := dk_172 (dk_at dksX7_sheet_1 14 rfl rfl)
theorem dX7_sheet_39 : decode cX7_sheet 39 = .ok (.aload_n 0, 1) := dk_42 (dk_at dksX7_sheet_1 15 rfl rfl)
theorem dX7_sheet_40 : decode cX7_sheet 40 = .ok (.getfield 38, 3) := dk_180 0 38 (dk_at dksX7_sheet_1 16 rfl rfl)
theorem dX7_sheet_43 : decode cX7_sheet 43 = .ok (.iload_n 1, 1) := dk_27 (dk_at dksX7_sheet_1 19 rfl rfl)
theorem dX7_sheet_44 : decode cX7_sheet 44 = .ok (.iload_n 2, 1) := dk_28 (dk_at dksX7_sheet_1 20 rfl rfl)
theorem dX7_sheet_45 : decode cX7_sheet 45 = .ok (.iastore, 1) := dk_79 (dk_at dksX7_sheet_1 21 rfl rfl)
theorem dX7_sheet_46 : decode cX7_sheet 46 = .ok (.aload_n 0, 1) := dk_42 (dk_at dksX7_sheet_1 22 rfl rfl)
theorem dX7_sheet_47 : decode cX7_sheet 47 = .ok (.getfield 41, 3) := dk_180 0 41 (dk_at dksX7_sheet_2 0 rfl rfl)
theorem dX7_sheet_50 : decode cX7_sheet 50 = .ok (.iload_n 1, 1) := dk_27 (dk_at dksX7_sheet_2 3 rfl rfl)
theorem dX7_sheet_51 : decode cX7_sheet 51 = .ok (.iload_n 3, 1) := dk_29 (dk_at dksX7_sheet_2 4 rfl rfl)
theorem dX7_sheet_52 : decode cX7_sheet 52 = .ok (.iastore, 1) := dk_79 (dk_at dksX7_sheet_2 5 rfl rfl)
theorem dX7_sheet_53 : decode cX7_sheet 53 = .ok (.iconst 0, 1) := dk_3 (dk_at dksX7_sheet_2 6 rfl rfl)
theorem dX7_sheet_54 : decode cX7_sheet 54 = .ok (.istore 4, 2) := dk_54 4 (dk_at dksX7_sheet_2 7 rfl rfl)
theorem dX7_sheet_56 : decode cX7_sheet 56 = .ok (.iload 4, 2) := dk_21 4 (dk_at dksX7_sheet_2 9 rfl rfl)
theorem dX7_sheet_58 : decode cX7_sheet 58 = .ok (.bipush 40, 2) := dk_16 40 (dk_at dksX7_sheet_2 11 rfl rfl)
theorem dX7_sheet_60 : decode cX7_sheet 60 = .ok (.if_icmp .ge 22, 3) := dk_162 0 22 (dk_at dksX7_sheet_2 13 rfl rfl)
theorem dX7_sheet_63 : decode cX7_sheet 63 = .ok (.aload_n 0, 1) := dk_42 (dk_at dksX7_sheet_2 16 rfl rfl)
theorem dX7_sheet_64 : decode cX7_sheet 64 = .ok (.getfield 44, 3) := dk_180 0 44 (dk_at dksX7_sheet_2 17 rfl rfl)
theorem dX7_sheet_67 : decode cX7_sheet 67 = .ok (.bipush 40, 2) := dk_16 40 (dk_at dksX7_sheet_2 20 rfl rfl)
theorem dX7_sheet_69 : decode cX7_sheet 69 = .ok (.iload_n 1, 1) := dk_27 (dk_at dksX7_sheet_2 22 rfl rfl)
theorem dX7_sheet_70 : decode cX7_sheet 70 = .ok (.imul, 1) := dk_104 (dk_at dksX7_sheet_2 23 rfl rfl)
theorem dX7_sheet_71 : decode cX7_sheet 71 = .ok (.iload 4, 2) := dk_21 4 (dk_at dksX7_sheet_3 0 rfl rfl)
theorem dX7_sheet_73 : decode cX7_sheet 73 = .ok (.iadd, 1) := dk_96 (dk_at dksX7_sheet_3 2 rfl rfl)
theorem dX7_sheet_74 : decode cX7_sheet 74 = .ok (.iconst 0, 1) := dk_3 (dk_at dksX7_sheet_3 3 rfl rfl)
theorem dX7_sheet_75 : decode cX7_sheet 75 = .ok (.iastore, 1) := dk_79 (dk_at dksX7_sheet_3 4 rfl rfl)
theorem dX7_sheet_76 : decode cX7_sheet 76 = .ok (.iinc 4 1, 3) := dk_132 4 1 (dk_at dksX7_sheet_3 5 rfl rfl)
theorem dX7_sheet_79 : decode cX7_sheet 79 = .ok (.goto (-23), 3) := dk_167 255 233 (dk_at dksX7_sheet_3 8 rfl rfl)
theorem dX7_sheet_82 : decode cX7_sheet 82 = .ok (.iconst 1, 1) := dk_4 (dk_at dksX7_sheet_3 11 rfl rfl)
theorem dX7_sheet_83 : decode cX7_sheet 83 = .ok (.ireturn, 1) := dk_172 (dk_at dksX7_sheet_3 12 rfl rfl)
abbrev cX7_write : ByteArray := prog_11_method_78_code
def yX7_write : MethodName := ⟨RX7, "write", "(III)I"⟩
def dkwX7_write_4 : List UInt8 := [16, 16, 122, 167, 0, 4, 29, 79, 4, 172]
abbrev dktX7_write_4 : List UInt8 := dkwX7_write_4 ++ []
def dkwX7_write_3 : List UInt8 := [16, 24, 120, 16, 24, 122, 167, 0, 24, 42, 180, 0, 38, 27, 46, 4, 160, 0, 13, 29, 16, 16, 120]
abbrev dktX7_write_3 : List UInt8 := dkwX7_write_3 ++ dktX7_write_4
def dkwX7_write_2 : List UInt8 := [16, 244, 172, 42, 180, 0, 44, 16, 40, 27, 104, 28, 96, 42, 180, 0, 38, 27, 46, 154, 0, 13, 29]
abbrev dktX7_write_2 : List UInt8 := dkwX7_write_2 ++ dktX7_write_3
def dkwX7_write_1 : List UInt8 := [160, 0, 6, 16, 245, 172, 28, 133, 9, 42, 180, 0, 41, 27, 46, 4, 100, 133, 184, 0, 49, 154, 0, 6]
abbrev dktX7_write_1 : List UInt8 := dkwX7_write_1 ++ dktX7_write_2
def dkwX7_write_0 : List UInt8 := [27, 133, 9, 20, 0, 137, 184, 0, 49, 154, 0, 5, 2, 172, 42, 180, 0, 38, 27, 46, 16, 252]
abbrev dktX7_write_0 : List UInt8 := dkwX7_write_0 ++ dktX7_write_1
theorem dksX7_write_0 : cX7_write.data.toList.drop 0 = dktX7_write_0 := by decide +kernel
theorem dksX7_write_1 : cX7_write.data.toList.drop 22 = dktX7_write_1 := dk_seg dksX7_write_0 22 rfl rfl
theorem dksX7_write_2 : cX7_write.data.toList.drop 46 = dktX7_write_2 := dk_seg dksX7_write_1 24 rfl rfl
theorem dksX7_write_3 : cX7_write.data.toList.drop 69 = dktX7_write_3 := dk_seg dksX7_write_2 23 rfl rfl
theorem dksX7_write_4 : cX7_write.data.toList.drop 92 = dktX7_write_4 := dk_seg dksX7_write_3 23 rfl rfl
theorem dX7_write_0 : decode cX7_write 0 = .ok (.iload_n 1, 1) := dk_27 (dk_at dksX7_write_0 0 rfl rfl)
theorem dX7_write_1 : decode cX7_write 1 = .ok (.i2l, 1) := dk_133 (dk_at dksX7_write_0 1 rfl rfl)
theorem dX7_write_2 : decode cX7_write 2 = .ok (.lconst 0, 1) := dk_9 (dk_at dksX7_write_0 2 rfl rfl)
theorem dX7_write_3 : decode cX7_write 3 = .ok (.ldc2_w 137, 3) := dk_20 0 137 (dk_at dksX7_write_0 3 rfl rfl)
theorem dX7_write_6 : decode cX7_write 6 = .ok (.invokestatic 49, 3) := dk_184 0 49 (dk_at dksX7_write_0 6 rfl rfl)
theorem dX7_write_9 : decode cX7_write 9 = .ok (.ifCond .ne 5, 3) := dk_154 0 5 (dk_at dksX7_write_0 9 rfl rfl)
theorem dX7_write_12 : decode cX7_write 12 = .ok (.iconst (-1), 1) := dk_2 (dk_at dksX7_write_0 12 rfl rfl)
theorem dX7_write_13 : decode cX7_write 13 = .ok (.ireturn, 1) := dk_172 (dk_at dksX7_write_0 13 rfl rfl)
theorem dX7_write_14 : decode cX7_write 14 = .ok (.aload_n 0, 1) := dk_42 (dk_at dksX7_write_0 14 rfl rfl)
theorem dX7_write_15 : decode cX7_write 15 = .ok (.getfield 38, 3) := dk_180 0 38 (dk_at dksX7_write_0 15 rfl rfl)
theorem dX7_write_18 : decode cX7_write 18 = .ok (.iload_n 1, 1) := dk_27 (dk_at dksX7_write_0 18 rfl rfl)
theorem dX7_write_19 : decode cX7_write 19 = .ok (.iaload, 1) := dk_46 (dk_at dksX7_write_0 19 rfl rfl)
theorem dX7_write_20 : decode cX7_write 20 = .ok (.bipush (-4), 2) := dk_16 252 (dk_at dksX7_write_0 20 rfl rfl)
theorem dX7_write_22 : decode cX7_write 22 = .ok (.if_icmp .ne 6, 3) := dk_160 0 6 (dk_at dksX7_write_1 0 rfl rfl)
theorem dX7_write_25 : decode cX7_write 25 = .ok (.bipush (-11), 2) := dk_16 245 (dk_at dksX7_write_1 3 rfl rfl)
theorem dX7_write_27 : decode cX7_write 27 = .ok (.ireturn, 1) := dk_172 (dk_at dksX7_write_1 5 rfl rfl)
theorem dX7_write_28 : decode cX7_write 28 = .ok (.iload_n 2, 1) := dk_28 (dk_at dksX7_write_1 6 rfl rfl)
theorem dX7_write_29 : decode cX7_write 29 = .ok (.i2l, 1) := dk_133 (dk_at dksX7_write_1 7 rfl rfl)
theorem dX7_write_30 : decode cX7_write 30 = .ok (.lconst 0, 1) := dk_9 (dk_at dksX7_write_1 8 rfl rfl)
theorem dX7_write_31 : decode cX7_write 31 = .ok (.aload_n 0, 1) := dk_42 (dk_at dksX7_write_1 9 rfl rfl)
theorem dX7_write_32 : decode cX7_write 32 = .ok (.getfield 41, 3) := dk_180 0 41 (dk_at dksX7_write_1 10 rfl rfl)
theorem dX7_write_35 : decode cX7_write 35 = .ok (.iload_n 1, 1) := dk_27 (dk_at dksX7_write_1 13 rfl rfl)
theorem dX7_write_36 : decode cX7_write 36 = .ok (.iaload, 1) := dk_46 (dk_at dksX7_write_1 14 rfl rfl)
theorem dX7_write_37 : decode cX7_write 37 = .ok (.iconst 1, 1) := dk_4 (dk_at dksX7_write_1 15 rfl rfl)
theorem dX7_write_38 : decode cX7_write 38 = .ok (.isub, 1) := dk_100 (dk_at dksX7_write_1 16 rfl rfl)
theorem dX7_write_39 : decode cX7_write 39 = .ok (.i2l, 1) := dk_133 (dk_at dksX7_write_1 17 rfl rfl)
theorem dX7_write_40 : decode cX7_write 40 = .ok (.invokestatic 49, 3) := dk_184 0 49 (dk_at dksX7_write_1 18 rfl rfl)
theorem dX7_write_43 : decode cX7_write 43 = .ok (.ifCond .ne 6, 3) := dk_154 0 6 (dk_at dksX7_write_1 21 rfl rfl)
theorem dX7_write_46 : decode cX7_write 46 = .ok (.bipush (-12), 2) := dk_16 244 (dk_at dksX7_write_2 0 rfl rfl)
theorem dX7_write_48 : decode cX7_write 48 = .ok (.ireturn, 1) := dk_172 (dk_at dksX7_write_2 2 rfl rfl)
theorem dX7_write_49 : decode cX7_write 49 = .ok (.aload_n 0, 1) := dk_42 (dk_at dksX7_write_2 3 rfl rfl)
theorem dX7_write_50 : decode cX7_write 50 = .ok (.getfield 44, 3) := dk_180 0 44 (dk_at dksX7_write_2 4 rfl rfl)
theorem dX7_write_53 : decode cX7_write 53 = .ok (.bipush 40, 2) := dk_16 40 (dk_at dksX7_write_2 7 rfl rfl)
theorem dX7_write_55 : decode cX7_write 55 = .ok (.iload_n 1, 1) := dk_27 (dk_at dksX7_write_2 9 rfl rfl)
theorem dX7_write_56 : decode cX7_write 56 = .ok (.imul, 1) := dk_104 (dk_at dksX7_write_2 10 rfl rfl)
theorem dX7_write_57 : decode cX7_write 57 = .ok (.iload_n 2, 1) := dk_28 (dk_at dksX7_write_2 11 rfl rfl)
theorem dX7_write_58 : decode cX7_write 58 = .ok (.iadd, 1) := dk_96 (dk_at dksX7_write_2 12 rfl rfl)
theorem dX7_write_59 : decode cX7_write 59 = .ok (.aload_n 0, 1) := dk_42 (dk_at dksX7_write_2 13 rfl rfl)
theorem dX7_write_60 : decode cX7_write 60 = .ok (.getfield 38, 3) := dk_180 0 38 (dk_at dksX7_write_2 14 rfl rfl)
theorem dX7_write_63 : decode cX7_write 63 = .ok (.iload_n 1, 1) := dk_27 (dk_at dksX7_write_2 17 rfl rfl)
theorem dX7_write_64 : decode cX7_write 64 = .ok (.iaload, 1) := dk_46 (dk_at dksX7_write_2 18 rfl rfl)
theorem dX7_write_65 : decode cX7_write 65 = .ok (.ifCond .ne 13, 3) := dk_154 0 13 (dk_at dksX7_write_2 19 rfl rfl)
theorem dX7_write_68 : decode cX7_write 68 = .ok (.iload_n 3, 1) := dk_29 (dk_at dksX7_write_2 22 rfl rfl)
theorem dX7_write_69 : decode cX7_write 69 = .ok (.bipush 24, 2) := dk_16 24 (dk_at dksX7_write_3 0 rfl rfl)
theorem dX7_write_71 : decode cX7_write 71 = .ok (.ishl, 1) := dk_120 (dk_at dksX7_write_3 2 rfl rfl)
theorem dX7_write_72 : decode cX7_write 72 = .ok (.bipush 24, 2) := dk_16 24 (dk_at dksX7_write_3 3 rfl rfl)
theorem dX7_write_74 : decode cX7_write 74 = .ok (.ishr, 1) := dk_122 (dk_at dksX7_write_3 5 rfl rfl)
theorem dX7_write_75 : decode cX7_write 75 = .ok (.goto 24, 3) := dk_167 0 24 (dk_at dksX7_write_3 6 rfl rfl)
theorem dX7_write_78 : decode cX7_write 78 = .ok (.aload_n 0, 1) := dk_42 (dk_at dksX7_write_3 9 rfl rfl)
theorem dX7_write_79 : decode cX7_write 79 = .ok (.getfield 38, 3) := dk_180 0 38 (dk_at dksX7_write_3 10 rfl rfl)
theorem dX7_write_82 : decode cX7_write 82 = .ok (.iload_n 1, 1) := dk_27 (dk_at dksX7_write_3 13 rfl rfl)
theorem dX7_write_83 : decode cX7_write 83 = .ok (.iaload, 1) := dk_46 (dk_at dksX7_write_3 14 rfl rfl)
theorem dX7_write_84 : decode cX7_write 84 = .ok (.iconst 1, 1) := dk_4 (dk_at dksX7_write_3 15 rfl rfl)
theorem dX7_write_85 : decode cX7_write 85 = .ok (.if_icmp .ne 13, 3) := dk_160 0 13 (dk_at dksX7_write_3 16 rfl rfl)
theorem dX7_write_88 : decode cX7_write 88 = .ok (.iload_n 3, 1) := dk_29 (dk_at dksX7_write_3 19 rfl rfl)
theorem dX7_write_89 : decode cX7_write 89 = .ok (.bipush 16, 2) := dk_16 16 (dk_at dksX7_write_3 20 rfl rfl)
theorem dX7_write_91 : decode cX7_write 91 = .ok (.ishl, 1) := dk_120 (dk_at dksX7_write_3 22 rfl rfl)
theorem dX7_write_92 : decode cX7_write 92 = .ok (.bipush 16, 2) := dk_16 16 (dk_at dksX7_write_4 0 rfl rfl)
theorem dX7_write_94 : decode cX7_write 94 = .ok (.ishr, 1) := dk_122 (dk_at dksX7_write_4 2 rfl rfl)
theorem dX7_write_95 : decode cX7_write 95 = .ok (.goto 4, 3) := dk_167 0 4 (dk_at dksX7_write_4 3 rfl rfl)
theorem dX7_write_98 : decode cX7_write 98 = .ok (.iload_n 3, 1) := dk_29 (dk_at dksX7_write_4 6 rfl rfl)
theorem dX7_write_99 : decode cX7_write 99 = .ok (.iastore, 1) := dk_79 (dk_at dksX7_write_4 7 rfl rfl)
theorem dX7_write_100 : decode cX7_write 100 = .ok (.iconst 1, 1) := dk_4 (dk_at dksX7_write_4 8 rfl rfl)
theorem dX7_write_101 : decode cX7_write 101 = .ok (.ireturn, 1) := dk_172 (dk_at dksX7_write_4 9 rfl rfl)
abbrev cX7_read : ByteArray := prog_11_method_79_code
def yX7_read : MethodName := ⟨RX7, "read", "(IIII)I"⟩
def dkwX7_read_8 : List UInt8 := [172, 132, 6, 1, 132, 7, 1, 167, 255, 118, 42, 21, 5, 181, 0, 249, 21, 6, 172]
abbrev dktX7_read_8 : List UInt8 := dkwX7_read_8 ++ []
def dkwX7_read_7 : List UInt8 := [180, 0, 44, 21, 8, 46, 182, 0, 206, 156, 0, 16, 42, 16, 123, 3, 182, 0, 218, 16, 236, 21, 6, 100]
abbrev dktX7_read_7 : List UInt8 := dkwX7_read_7 ++ dktX7_read_8
def dkwX7_read_6 : List UInt8 := [16, 40, 27, 104, 29, 96, 21, 7, 96, 54, 8, 42, 42, 180, 0, 44, 21, 8, 4, 100, 46, 42]
abbrev dktX7_read_6 : List UInt8 := dkwX7_read_6 ++ dktX7_read_7
def dkwX7_read_5 : List UInt8 := [154, 0, 7, 5, 167, 0, 4, 3, 54, 5, 21, 5, 154, 0, 61, 21, 7, 5, 112, 4, 160, 0, 53]
abbrev dktX7_read_5 : List UInt8 := dkwX7_read_5 ++ dktX7_read_6
def dkwX7_read_4 : List UInt8 := [6, 167, 0, 30, 29, 133, 21, 7, 133, 97, 9, 42, 180, 0, 41, 27, 46, 4, 100, 133, 184, 0, 49]
abbrev dktX7_read_4 : List UInt8 := dkwX7_read_4 ++ dktX7_read_5
def dkwX7_read_3 : List UInt8 := [180, 0, 38, 27, 46, 16, 252, 160, 0, 7, 4, 167, 0, 44, 42, 180, 0, 38, 27, 46, 28, 159, 0, 7]
abbrev dktX7_read_3 : List UInt8 := dkwX7_read_3 ++ dktX7_read_4
def dkwX7_read_2 : List UInt8 := [54, 5, 3, 54, 6, 3, 54, 7, 21, 7, 5, 21, 4, 104, 162, 0, 135, 21, 5, 154, 0, 130, 42]
abbrev dktX7_read_2 : List UInt8 := dkwX7_read_2 ++ dktX7_read_3
def dkwX7_read_1 : List UInt8 := [21, 4, 133, 9, 20, 0, 247, 184, 0, 49, 154, 0, 5, 2, 172, 42, 3, 16, 123, 182, 0, 218, 3]
abbrev dktX7_read_1 : List UInt8 := dkwX7_read_1 ++ dktX7_read_2
def dkwX7_read_0 : List UInt8 := [27, 133, 9, 20, 0, 137, 184, 0, 49, 153, 0, 28, 28, 133, 9, 20, 0, 178, 184, 0, 49, 153, 0, 16]
abbrev dktX7_read_0 : List UInt8 := dkwX7_read_0 ++ dktX7_read_1
theorem dksX7_read_0 : cX7_read.data.toList.drop 0 = dktX7_read_0 := by decide +kernel
theorem dksX7_read_1 : cX7_read.data.toList.drop 24 = dktX7_read_1 := dk_seg dksX7_read_0 24 rfl rfl
theorem dksX7_read_2 : cX7_read.data.toList.drop 47 = dktX7_read_2 := dk_seg dksX7_read_1 23 rfl rfl
theorem dksX7_read_3 : cX7_read.data.toList.drop 70 = dktX7_read_3 := dk_seg dksX7_read_2 23 rfl rfl
theorem dksX7_read_4 : cX7_read.data.toList.drop 94 = dktX7_read_4 := dk_seg dksX7_read_3 24 rfl rfl
theorem dksX7_read_5 : cX7_read.data.toList.drop 117 = dktX7_read_5 := dk_seg dksX7_read_4 23 rfl rfl
theorem dksX7_read_6 : cX7_read.data.toList.drop 140 = dktX7_read_6 := dk_seg dksX7_read_5 23 rfl rfl
theorem dksX7_read_7 : cX7_read.data.toList.drop 162 = dktX7_read_7 := dk_seg dksX7_read_6 22 rfl rfl
theorem dksX7_read_8 : cX7_read.data.toList.drop 186 = dktX7_read_8 := dk_seg dksX7_read_7 24 rfl rfl
theorem dX7_read_0 : decode cX7_read 0 = .ok (.iload_n 1, 1) := dk_27 (dk_at dksX7_read_0 0 rfl rfl)
theorem dX7_read_1 : decode cX7_read 1 = .ok (.i2l, 1) := dk_133 (dk_at dksX7_read_0 1 rfl rfl)
theorem dX7_read_2 : decode cX7_read 2 = .ok (.lconst 0, 1) := dk_9 (dk_at dksX7_read_0 2 rfl rfl)
theorem dX7_read_3 : decode cX7_read 3 = .ok (.ldc2_w 137, 3) := dk_20 0 137 (dk_at dksX7_read_0 3 rfl rfl)
theorem dX7_read_6 : decode cX7_read 6 = .ok (.invokestatic 49, 3) := dk_184 0 49 (dk_at dksX7_read_0 6 rfl rfl)
theorem dX7_read_9 : decode cX7_read 9 = .ok (.ifCond .eq 28, 3) := dk_153 0 28 (dk_at dksX7_read_0 9 rfl rfl)
theorem dX7_read_12 : decode cX7_read 12 = .ok (.iload_n 2, 1) := dk_28 (dk_at dksX7_read_0 12 rfl rfl)
theorem dX7_read_13 : decode cX7_read 13 = .ok (.i2l, 1) := dk_133 (dk_at dksX7_read_0 13 rfl rfl)
theorem dX7_read_14 : decode cX7_read 14 = .ok (.lconst 0, 1) := dk_9 (dk_at dksX7_read_0 14 rfl rfl)
theorem dX7_read_15 : decode cX7_read 15 = .ok (.ldc2_w 178, 3) := dk_20 0 178 (dk_at dksX7_read_0 15 rfl rfl)
theorem dX7_read_18 : decode cX7_read 18 = .ok (.invokestatic 49, 3) := dk_184 0 49 (dk_at dksX7_read_0 18 rfl rfl)
theorem dX7_read_21 : decode cX7_read 21 = .ok (.ifCond .eq 16, 3) := dk_153 0 16 (dk_at dksX7_read_0 21 rfl rfl)
theorem dX7_read_24 : decode cX7_read 24 = .ok (.iload 4, 2) := dk_21 4 (dk_at dksX7_read_1 0 rfl rfl)
theorem dX7_read_26 : decode cX7_read 26 = .ok (.i2l, 1) := dk_133 (dk_at dksX7_read_1 2 rfl rfl)
theorem dX7_read_27 : decode cX7_read 27 = .ok (.lconst 0, 1) := dk_9 (dk_at dksX7_read_1 3 rfl rfl)
theorem dX7_read_28 : decode cX7_read 28 = .ok (.ldc2_w 247, 3) := dk_20 0 247 (dk_at dksX7_read_1 4 rfl rfl)
theorem dX7_read_31 : decode cX7_read 31 = .ok (.invokestatic 49, 3) := dk_184 0 49 (dk_at dksX7_read_1 7 rfl rfl)
theorem dX7_read_34 : decode cX7_read 34 = .ok (.ifCond .ne 5, 3) := dk_154 0 5 (dk_at dksX7_read_1 10 rfl rfl)
theorem dX7_read_37 : decode cX7_read 37 = .ok (.iconst (-1), 1) := dk_2 (dk_at dksX7_read_1 13 rfl rfl)
theorem dX7_read_38 : decode cX7_read 38 = .ok (.ireturn, 1) := dk_172 (dk_at dksX7_read_1 14 rfl rfl)
theorem dX7_read_39 : decode cX7_read 39 = .ok (.aload_n 0, 1) := dk_42 (dk_at dksX7_read_1 15 rfl rfl)
theorem dX7_read_40 : decode cX7_read 40 = .ok (.iconst 0, 1) := dk_3 (dk_at dksX7_read_1 16 rfl rfl)
theorem dX7_read_41 : decode cX7_read 41 = .ok (.bipush 123, 2) := dk_16 123 (dk_at dksX7_read_1 17 rfl rfl)
theorem dX7_read_43 : decode cX7_read 43 = .ok (.invokevirtual 218, 3) := dk_182 0 218 (dk_at dksX7_read_1 19 rfl rfl)
theorem dX7_read_46 : decode cX7_read 46 = .ok (.iconst 0, 1) := dk_3 (dk_at dksX7_read_1 22 rfl rfl)
theorem dX7_read_47 : decode cX7_read 47 = .ok (.istore 5, 2) := dk_54 5 (dk_at dksX7_read_2 0 rfl rfl)
theorem dX7_read_49 : decode cX7_read 49 = .ok (.iconst 0, 1) := dk_3 (dk_at dksX7_read_2 2 rfl rfl)
theorem dX7_read_50 : decode cX7_read 50 = .ok (.istore 6, 2) := dk_54 6 (dk_at dksX7_read_2 3 rfl rfl)
theorem dX7_read_52 : decode cX7_read 52 = .ok (.iconst 0, 1) := dk_3 (dk_at dksX7_read_2 5 rfl rfl)
theorem dX7_read_53 : decode cX7_read 53 = .ok (.istore 7, 2) := dk_54 7 (dk_at dksX7_read_2 6 rfl rfl)
theorem dX7_read_55 : decode cX7_read 55 = .ok (.iload 7, 2) := dk_21 7 (dk_at dksX7_read_2 8 rfl rfl)
theorem dX7_read_57 : decode cX7_read 57 = .ok (.iconst 2, 1) := dk_5 (dk_at dksX7_read_2 10 rfl rfl)
theorem dX7_read_58 : decode cX7_read 58 = .ok (.iload 4, 2) := dk_21 4 (dk_at dksX7_read_2 11 rfl rfl)
theorem dX7_read_60 : decode cX7_read 60 = .ok (.imul, 1) := dk_104 (dk_at dksX7_read_2 13 rfl rfl)
theorem dX7_read_61 : decode cX7_read 61 = .ok (.if_icmp .ge 135, 3) := dk_162 0 135 (dk_at dksX7_read_2 14 rfl rfl)
theorem dX7_read_64 : decode cX7_read 64 = .ok (.iload 5, 2) := dk_21 5 (dk_at dksX7_read_2 17 rfl rfl)
theorem dX7_read_66 : decode cX7_read 66 = .ok (.ifCond .ne 130, 3) := dk_154 0 130 (dk_at dksX7_read_2 19 rfl rfl)
theorem dX7_read_69 : decode cX7_read 69 = .ok (.aload_n 0, 1) := dk_42 (dk_at dksX7_read_2 22 rfl rfl)
theorem dX7_read_70 : decode cX7_read 70 = .ok (.getfield 38, 3) := dk_180 0 38 (dk_at dksX7_read_3 0 rfl rfl)
theorem dX7_read_73 : decode cX7_read 73 = .ok (.iload_n 1, 1) := dk_27 (dk_at dksX7_read_3 3 rfl rfl)
theorem dX7_read_74 : decode cX7_read 74 = .ok (.iaload, 1) := dk_46 (dk_at dksX7_read_3 4 rfl rfl)
theorem dX7_read_75 : decode cX7_read 75 = .ok (.bipush (-4), 2) := dk_16 252 (dk_at dksX7_read_3 5 rfl rfl)
theorem dX7_read_77 : decode cX7_read 77 = .ok (.if_icmp .ne 7, 3) := dk_160 0 7 (dk_at dksX7_read_3 7 rfl rfl)
theorem dX7_read_80 : decode cX7_read 80 = .ok (.iconst 1, 1) := dk_4 (dk_at dksX7_read_3 10 rfl rfl)
theorem dX7_read_81 : decode cX7_read 81 = .ok (.goto 44, 3) := dk_167 0 44 (dk_at dksX7_read_3 11 rfl rfl)
theorem dX7_read_84 : decode cX7_read 84 = .ok (.aload_n 0, 1) := dk_42 (dk_at dksX7_read_3 14 rfl rfl)
theorem dX7_read_85 : decode cX7_read 85 = .ok (.getfield 38, 3) := dk_180 0 38 (dk_at dksX7_read_3 15 rfl rfl)
theorem dX7_read_88 : decode cX7_read 88 = .ok (.iload_n 1, 1) := dk_27 (dk_at dksX7_read_3 18 rfl rfl)
theorem dX7_read_89 : decode cX7_read 89 = .ok (.iaload, 1) := dk_46 (dk_at dksX7_read_3 19 rfl rfl)
theorem dX7_read_90 : decode cX7_read 90 = .ok (.iload_n 2, 1) := dk_28 (dk_at dksX7_read_3 20 rfl rfl)
theorem dX7_read_91 : decode cX7_read 91 = .ok (.if_icmp .eq 7, 3) := dk_159 0 7 (dk_at dksX7_read_3 21 rfl rfl)
theorem dX7_read_94 : decode cX7_read 94 = .ok (.iconst 3, 1) := dk_6 (dk_at dksX7_read_4 0 rfl rfl)
theorem dX7_read_95 : decode cX7_read 95 = .ok (.goto 30, 3) := dk_167 0 30 (dk_at dksX7_read_4 1 rfl rfl)
theorem dX7_read_98 : decode cX7_read 98 = .ok (.iload_n 3, 1) := dk_29 (dk_at dksX7_read_4 4 rfl rfl)
theorem dX7_read_99 : decode cX7_read 99 = .ok (.i2l, 1) := dk_133 (dk_at dksX7_read_4 5 rfl rfl)
theorem dX7_read_100 : decode cX7_read 100 = .ok (.iload 7, 2) := dk_21 7 (dk_at dksX7_read_4 6 rfl rfl)
theorem dX7_read_102 : decode cX7_read 102 = .ok (.i2l, 1) := dk_133 (dk_at dksX7_read_4 8 rfl rfl)
theorem dX7_read_103 : decode cX7_read 103 = .ok (.ladd, 1) := dk_97 (dk_at dksX7_read_4 9 rfl rfl)
theorem dX7_read_104 : decode cX7_read 104 = .ok (.lconst 0, 1) := dk_9 (dk_at dksX7_read_4 10 rfl rfl)
theorem dX7_read_105 : decode cX7_read 105 = .ok (.aload_n 0, 1) := dk_42 (dk_at dksX7_read_4 11 rfl rfl)
theorem dX7_read_106 : decode cX7_read 106 = .ok (.getfield 41, 3) := dk_180 0 41 (dk_at dksX7_read_4 12 rfl rfl)
theorem dX7_read_109 : decode cX7_read 109 = .ok (.iload_n 1, 1) := dk_27 (dk_at dksX7_read_4 15 rfl rfl)
theorem dX7_read_110 : decode cX7_read 110 = .ok (.iaload, 1) := dk_46 (dk_at dksX7_read_4 16 rfl rfl)
theorem dX7_read_111 : decode cX7_read 111 = .ok (.iconst 1, 1) := dk_4 (dk_at dksX7_read_4 17 rfl rfl)
theorem dX7_read_112 : decode cX7_read 112 = .ok (.isub, 1) := dk_100 (dk_at dksX7_read_4 18 rfl rfl)
theorem dX7_read_113 : decode cX7_read 113 = .ok (.i2l, 1) := dk_133 (dk_at dksX7_read_4 19 rfl rfl)
theorem dX7_read_114 : decode cX7_read 114 = .ok (.invokestatic 49, 3) := dk_184 0 49 (dk_at dksX7_read_4 20 rfl rfl)
theorem dX7_read_117 : decode cX7_read 117 = .ok (.ifCond .ne 7, 3) := dk_154 0 7 (dk_at dksX7_read_5 0 rfl rfl)
theorem dX7_read_120 : decode cX7_read 120 = .ok (.iconst 2, 1) := dk_5 (dk_at dksX7_read_5 3 rfl rfl)
theorem dX7_read_121 : decode cX7_read 121 = .ok (.goto 4, 3) := dk_167 0 4 (dk_at dksX7_read_5 4 rfl rfl)
theorem dX7_read_124 : decode cX7_read 124 = .ok (.iconst 0, 1) := dk_3 (dk_at dksX7_read_5 7 rfl rfl)
theorem dX7_read_125 : decode cX7_read 125 = .ok (.istore 5, 2) := dk_54 5 (dk_at dksX7_read_5 8 rfl rfl)
theorem dX7_read_127 : decode cX7_read 127 = .ok (.iload 5, 2) := dk_21 5 (dk_at dksX7_read_5 10 rfl rfl)
theorem dX7_read_129 : decode cX7_read 129 = .ok (.ifCond .ne 61, 3) := dk_154 0 61 (dk_at dksX7_read_5 12 rfl rfl)
theorem dX7_read_132 : decode cX7_read 132 = .ok (.iload 7, 2) := dk_21 7 (dk_at dksX7_read_5 15 rfl rfl)
theorem dX7_read_134 : decode cX7_read 134 = .ok (.iconst 2, 1) := dk_5 (dk_at dksX7_read_5 17 rfl rfl)
theorem dX7_read_135 : decode cX7_read 135 = .ok (.irem, 1) := dk_112 (dk_at dksX7_read_5 18 rfl rfl)
theorem dX7_read_136 : decode cX7_read 136 = .ok (.iconst 1, 1) := dk_4 (dk_at dksX7_read_5 19 rfl rfl)
theorem dX7_read_137 : decode cX7_read 137 = .ok (.if_icmp .ne 53, 3) := dk_160 0 53 (dk_at dksX7_read_5 20 rfl rfl)
theorem dX7_read_140 : decode cX7_read 140 = .ok (.bipush 40, 2) := dk_16 40 (dk_at dksX7_read_6 0 rfl rfl)
theorem dX7_read_142 : decode cX7_read 142 = .ok (.iload_n 1, 1) := dk_27 (dk_at dksX7_read_6 2 rfl rfl)
theorem dX7_read_143 : decode cX7_read 143 = .ok (.imul, 1) := dk_104 (dk_at dksX7_read_6 3 rfl rfl)
theorem dX7_read_144 : decode cX7_read 144 = .ok (.iload_n 3, 1) := dk_29 (dk_at dksX7_read_6 4 rfl rfl)
theorem dX7_read_145 : decode cX7_read 145 = .ok (.iadd, 1) := dk_96 (dk_at dksX7_read_6 5 rfl rfl)
theorem dX7_read_146 : decode cX7_read 146 = .ok (.iload 7, 2) := dk_21 7 (dk_at dksX7_read_6 6 rfl rfl)
theorem dX7_read_148 : decode cX7_read 148 = .ok (.iadd, 1) := dk_96 (dk_at dksX7_read_6 8 rfl rfl)
theorem dX7_read_149 : decode cX7_read 149 = .ok (.istore 8, 2) := dk_54 8 (dk_at dksX7_read_6 9 rfl rfl)
theorem dX7_read_151 : decode cX7_read 151 = .ok (.aload_n 0, 1) := dk_42 (dk_at dksX7_read_6 11 rfl rfl)
theorem dX7_read_152 : decode cX7_read 152 = .ok (.aload_n 0, 1) := dk_42 (dk_at dksX7_read_6 12 rfl rfl)
theorem dX7_read_153 : decode cX7_read 153 = .ok (.getfield 44, 3) := dk_180 0 44 (dk_at dksX7_read_6 13 rfl rfl)
theorem dX7_read_156 : decode cX7_read 156 = .ok (.iload 8, 2) := dk_21 8 (dk_at dksX7_read_6 16 rfl rfl)
theorem dX7_read_158 : decode cX7_read 158 = .ok (.iconst 1, 1) := dk_4 (dk_at dksX7_read_6 18 rfl rfl)
theorem dX7_read_159 : decode cX7_read 159 = .ok (.isub, 1) := dk_100 (dk_at dksX7_read_6 19 rfl rfl)
theorem dX7_read_160 : decode cX7_read 160 = .ok (.iaload, 1) := dk_46 (dk_at dksX7_read_6 20 rfl rfl)
theorem dX7_read_161 : decode cX7_read 161 = .ok (.aload_n 0, 1) := dk_42 (dk_at dksX7_read_6 21 rfl rfl)
theorem dX7_read_162 : decode cX7_read 162 = .ok (.getfield 44, 3) := dk_180 0 44 (dk_at dksX7_read_7 0 rfl rfl)
theorem dX7_read_165 : decode cX7_read 165 = .ok (.iload 8, 2) := dk_21 8 (dk_at dksX7_read_7 3 rfl rfl)
theorem dX7_read_167 : decode cX7_read 167 = .ok (.iaload, 1) := dk_46 (dk_at dksX7_read_7 5 rfl rfl)
theorem dX7_read_168 : decode cX7_read 168 = .ok (.invokevirtual 206, 3) := dk_182 0 206 (dk_at dksX7_read_7 6 rfl rfl)
theorem dX7_read_171 : decode cX7_read 171 = .ok (.ifCond .ge 16, 3) := dk_156 0 16 (dk_at dksX7_read_7 9 rfl rfl)
theorem dX7_read_174 : decode cX7_read 174 = .ok (.aload_n 0, 1) := dk_42 (dk_at dksX7_read_7 12 rfl rfl)
theorem dX7_read_175 : decode cX7_read 175 = .ok (.bipush 123, 2) := dk_16 123 (dk_at dksX7_read_7 13 rfl rfl)
theorem dX7_read_177 : decode cX7_read 177 = .ok (.iconst 0, 1) := dk_3 (dk_at dksX7_read_7 15 rfl rfl)
theorem dX7_read_178 : decode cX7_read 178 = .ok (.invokevirtual 218, 3) := dk_182 0 218 (dk_at dksX7_read_7 16 rfl rfl)
theorem dX7_read_181 : decode cX7_read 181 = .ok (.bipush (-20), 2) := dk_16 236 (dk_at dksX7_read_7 19 rfl rfl)
theorem dX7_read_183 : decode cX7_read 183 = .ok (.iload 6, 2) := dk_21 6 (dk_at dksX7_read_7 21 rfl rfl)
theorem dX7_read_185 : decode cX7_read 185 = .ok (.isub, 1) := dk_100 (dk_at dksX7_read_7 23 rfl rfl)
theorem dX7_read_186 : decode cX7_read 186 = .ok (.ireturn, 1) := dk_172 (dk_at dksX7_read_8 0 rfl rfl)
theorem dX7_read_187 : decode cX7_read 187 = .ok (.iinc 6 1, 3) := dk_132 6 1 (dk_at dksX7_read_8 1 rfl rfl)
theorem dX7_read_190 : decode cX7_read 190 = .ok (.iinc 7 1, 3) := dk_132 7 1 (dk_at dksX7_read_8 4 rfl rfl)
theorem dX7_read_193 : decode cX7_read 193 = .ok (.goto (-138), 3) := dk_167 255 118 (dk_at dksX7_read_8 7 rfl rfl)
theorem dX7_read_196 : decode cX7_read 196 = .ok (.aload_n 0, 1) := dk_42 (dk_at dksX7_read_8 10 rfl rfl)
theorem dX7_read_197 : decode cX7_read 197 = .ok (.iload 5, 2) := dk_21 5 (dk_at dksX7_read_8 11 rfl rfl)
theorem dX7_read_199 : decode cX7_read 199 = .ok (.putfield 249, 3) := dk_181 0 249 (dk_at dksX7_read_8 13 rfl rfl)
theorem dX7_read_202 : decode cX7_read 202 = .ok (.iload 6, 2) := dk_21 6 (dk_at dksX7_read_8 16 rfl rfl)
theorem dX7_read_204 : decode cX7_read 204 = .ok (.ireturn, 1) := dk_172 (dk_at dksX7_read_8 18 rfl rfl)
abbrev cX7_torn : ByteArray := prog_11_method_80_code
def yX7_torn : MethodName := ⟨RX7, "torn", "()I"⟩
theorem dX7_torn_0 : decode cX7_torn 0 = .ok (.aload_n 0, 1) := by decide +kernel
theorem dX7_torn_1 : decode cX7_torn 1 = .ok (.getfield 249, 3) := by decide +kernel
theorem dX7_torn_4 : decode cX7_torn 4 = .ok (.ireturn, 1) := by decide +kernel
abbrev cX7_count : ByteArray := prog_11_method_81_code
def yX7_count : MethodName := ⟨RX7, "count", "(I)I"⟩
def dkwX7_count_7 : List UInt8 := [160, 0, 8, 16, 252, 167, 0, 9, 42, 180, 0, 41, 3, 46, 172, 28, 172, 29, 172, 2, 172]
abbrev dktX7_count_7 : List UInt8 := dkwX7_count_7 ++ []
def dkwX7_count_6 : List UInt8 := [51, 153, 0, 7, 4, 167, 0, 4, 3, 96, 172, 42, 180, 0, 53, 172, 42, 180, 0, 38, 3, 46, 16, 252]
abbrev dktX7_count_6 : List UInt8 := dkwX7_count_6 ++ dktX7_count_7
def dkwX7_count_5 : List UInt8 := [42, 180, 0, 132, 172, 42, 180, 0, 34, 3, 51, 153, 0, 7, 4, 167, 0, 4, 3, 42, 180, 0, 34, 4]
abbrev dktX7_count_5 : List UInt8 := dkwX7_count_5 ++ dktX7_count_6
def dkwX7_count_4 : List UInt8 := [170, 0, 0, 0, 0, 105, 0, 0, 0, 0, 0, 0, 0, 5, 0, 0, 0, 38, 0, 0, 0, 43, 0, 0, 0, 73, 0, 0, 0, 78, 0, 0, 0, 101, 0, 0, 0, 103]
abbrev dktX7_count_4 : List UInt8 := dkwX7_count_4 ++ dktX7_count_5
def dkwX7_count_3 : List UInt8 := [132, 4, 1, 167, 255, 231, 27]
abbrev dktX7_count_3 : List UInt8 := dkwX7_count_3 ++ dktX7_count_4
def dkwX7_count_2 : List UInt8 := [54, 4, 21, 4, 42, 180, 0, 129, 162, 0, 22, 29, 42, 180, 0, 7, 16, 22, 21, 4, 96, 46, 96, 62]
abbrev dktX7_count_2 : List UInt8 := dkwX7_count_2 ++ dktX7_count_3
def dkwX7_count_1 : List UInt8 := [16, 7, 21, 4, 96, 46, 154, 0, 7, 4, 167, 0, 4, 3, 96, 61, 132, 4, 1, 167, 255, 220, 3]
abbrev dktX7_count_1 : List UInt8 := dkwX7_count_1 ++ dktX7_count_2
def dkwX7_count_0 : List UInt8 := [3, 61, 3, 62, 3, 54, 4, 21, 4, 42, 180, 0, 7, 16, 38, 46, 162, 0, 30, 28, 42, 180, 0, 7]
abbrev dktX7_count_0 : List UInt8 := dkwX7_count_0 ++ dktX7_count_1
theorem dksX7_count_0 : cX7_count.data.toList.drop 0 = dktX7_count_0 := by decide +kernel
theorem dksX7_count_1 : cX7_count.data.toList.drop 24 = dktX7_count_1 := dk_seg dksX7_count_0 24 rfl rfl
theorem dksX7_count_2 : cX7_count.data.toList.drop 47 = dktX7_count_2 := dk_seg dksX7_count_1 23 rfl rfl
theorem dksX7_count_3 : cX7_count.data.toList.drop 71 = dktX7_count_3 := dk_seg dksX7_count_2 24 rfl rfl
theorem dksX7_count_4 : cX7_count.data.toList.drop 78 = dktX7_count_4 := dk_seg dksX7_count_3 7 rfl rfl
theorem dksX7_count_5 : cX7_count.data.toList.drop 116 = dktX7_count_5 := dk_seg dksX7_count_4 38 rfl rfl
theorem dksX7_count_6 : cX7_count.data.toList.drop 140 = dktX7_count_6 := dk_seg dksX7_count_5 24 rfl rfl
theorem dksX7_count_7 : cX7_count.data.toList.drop 164 = dktX7_count_7 := dk_seg dksX7_count_6 24 rfl rfl
theorem dX7_count_0 : decode cX7_count 0 = .ok (.iconst 0, 1) := dk_3 (dk_at dksX7_count_0 0 rfl rfl)
theorem dX7_count_1 : decode cX7_count 1 = .ok (.istore_n 2, 1) := dk_61 (dk_at dksX7_count_0 1 rfl rfl)
theorem dX7_count_2 : decode cX7_count 2 = .ok (.iconst 0, 1) := dk_3 (dk_at dksX7_count_0 2 rfl rfl)
theorem dX7_count_3 : decode cX7_count 3 = .ok (.istore_n 3, 1) := dk_62 (dk_at dksX7_count_0 3 rfl rfl)
theorem dX7_count_4 : decode cX7_count 4 = .ok (.iconst 0, 1) := dk_3 (dk_at dksX7_count_0 4 rfl rfl)
theorem dX7_count_5 : decode cX7_count 5 = .ok (.istore 4, 2) := dk_54 4 (dk_at dksX7_count_0 5 rfl rfl)
theorem dX7_count_7 : decode cX7_count 7 = .ok (.iload 4, 2) := dk_21 4 (dk_at dksX7_count_0 7 rfl rfl)
theorem dX7_count_9 : decode cX7_count 9 = .ok (.aload_n 0, 1) := dk_42 (dk_at dksX7_count_0 9 rfl rfl)
theorem dX7_count_10 : decode cX7_count 10 = .ok (.getfield 7, 3) := dk_180 0 7 (dk_at dksX7_count_0 10 rfl rfl)
theorem dX7_count_13 : decode cX7_count 13 = .ok (.bipush 38, 2) := dk_16 38 (dk_at dksX7_count_0 13 rfl rfl)
theorem dX7_count_15 : decode cX7_count 15 = .ok (.iaload, 1) := dk_46 (dk_at dksX7_count_0 15 rfl rfl)
theorem dX7_count_16 : decode cX7_count 16 = .ok (.if_icmp .ge 30, 3) := dk_162 0 30 (dk_at dksX7_count_0 16 rfl rfl)
theorem dX7_count_19 : decode cX7_count 19 = .ok (.iload_n 2, 1) := dk_28 (dk_at dksX7_count_0 19 rfl rfl)
theorem dX7_count_20 : decode cX7_count 20 = .ok (.aload_n 0, 1) := dk_42 (dk_at dksX7_count_0 20 rfl rfl)
theorem dX7_count_21 : decode cX7_count 21 = .ok (.getfield 7, 3) := dk_180 0 7 (dk_at dksX7_count_0 21 rfl rfl)
theorem dX7_count_24 : decode cX7_count 24 = .ok (.bipush 7, 2) := dk_16 7 (dk_at dksX7_count_1 0 rfl rfl)
theorem dX7_count_26 : decode cX7_count 26 = .ok (.iload 4, 2) := dk_21 4 (dk_at dksX7_count_1 2 rfl rfl)
theorem dX7_count_28 : decode cX7_count 28 = .ok (.iadd, 1) := dk_96 (dk_at dksX7_count_1 4 rfl rfl)
theorem dX7_count_29 : decode cX7_count 29 = .ok (.iaload, 1) := dk_46 (dk_at dksX7_count_1 5 rfl rfl)
theorem dX7_count_30 : decode cX7_count 30 = .ok (.ifCond .ne 7, 3) := dk_154 0 7 (dk_at dksX7_count_1 6 rfl rfl)
theorem dX7_count_33 : decode cX7_count 33 = .ok (.iconst 1, 1) := dk_4 (dk_at dksX7_count_1 9 rfl rfl)
theorem dX7_count_34 : decode cX7_count 34 = .ok (.goto 4, 3) := dk_167 0 4 (dk_at dksX7_count_1 10 rfl rfl)
theorem dX7_count_37 : decode cX7_count 37 = .ok (.iconst 0, 1) := dk_3 (dk_at dksX7_count_1 13 rfl rfl)
theorem dX7_count_38 : decode cX7_count 38 = .ok (.iadd, 1) := dk_96 (dk_at dksX7_count_1 14 rfl rfl)
theorem dX7_count_39 : decode cX7_count 39 = .ok (.istore_n 2, 1) := dk_61 (dk_at dksX7_count_1 15 rfl rfl)
theorem dX7_count_40 : decode cX7_count 40 = .ok (.iinc 4 1, 3) := dk_132 4 1 (dk_at dksX7_count_1 16 rfl rfl)
theorem dX7_count_43 : decode cX7_count 43 = .ok (.goto (-36), 3) := dk_167 255 220 (dk_at dksX7_count_1 19 rfl rfl)
theorem dX7_count_46 : decode cX7_count 46 = .ok (.iconst 0, 1) := dk_3 (dk_at dksX7_count_1 22 rfl rfl)
theorem dX7_count_47 : decode cX7_count 47 = .ok (.istore 4, 2) := dk_54 4 (dk_at dksX7_count_2 0 rfl rfl)
theorem dX7_count_49 : decode cX7_count 49 = .ok (.iload 4, 2) := dk_21 4 (dk_at dksX7_count_2 2 rfl rfl)
theorem dX7_count_51 : decode cX7_count 51 = .ok (.aload_n 0, 1) := dk_42 (dk_at dksX7_count_2 4 rfl rfl)
theorem dX7_count_52 : decode cX7_count 52 = .ok (.getfield 129, 3) := dk_180 0 129 (dk_at dksX7_count_2 5 rfl rfl)
theorem dX7_count_55 : decode cX7_count 55 = .ok (.if_icmp .ge 22, 3) := dk_162 0 22 (dk_at dksX7_count_2 8 rfl rfl)
theorem dX7_count_58 : decode cX7_count 58 = .ok (.iload_n 3, 1) := dk_29 (dk_at dksX7_count_2 11 rfl rfl)
theorem dX7_count_59 : decode cX7_count 59 = .ok (.aload_n 0, 1) := dk_42 (dk_at dksX7_count_2 12 rfl rfl)
theorem dX7_count_60 : decode cX7_count 60 = .ok (.getfield 7, 3) := dk_180 0 7 (dk_at dksX7_count_2 13 rfl rfl)
theorem dX7_count_63 : decode cX7_count 63 = .ok (.bipush 22, 2) := dk_16 22 (dk_at dksX7_count_2 16 rfl rfl)
theorem dX7_count_65 : decode cX7_count 65 = .ok (.iload 4, 2) := dk_21 4 (dk_at dksX7_count_2 18 rfl rfl)
theorem dX7_count_67 : decode cX7_count 67 = .ok (.iadd, 1) := dk_96 (dk_at dksX7_count_2 20 rfl rfl)
theorem dX7_count_68 : decode cX7_count 68 = .ok (.iaload, 1) := dk_46 (dk_at dksX7_count_2 21 rfl rfl)
theorem dX7_count_69 : decode cX7_count 69 = .ok (.iadd, 1) := dk_96 (dk_at dksX7_count_2 22 rfl rfl)
theorem dX7_count_70 : decode cX7_count 70 = .ok (.istore_n 3, 1) := dk_62 (dk_at dksX7_count_2 23 rfl rfl)
theorem dX7_count_71 : decode cX7_count 71 = .ok (.iinc 4 1, 3) := dk_132 4 1 (dk_at dksX7_count_3 0 rfl rfl)
theorem dX7_count_74 : decode cX7_count 74 = .ok (.goto (-25), 3) := dk_167 255 231 (dk_at dksX7_count_3 3 rfl rfl)
theorem dX7_count_77 : decode cX7_count 77 = .ok (.iload_n 1, 1) := dk_27 (dk_at dksX7_count_3 6 rfl rfl)
theorem dX7_count_78 : decode cX7_count 78 = .ok (.tableswitch 105 0 5 #[38, 43, 73, 78, 101, 103], 38) := by decide +kernel
theorem dX7_count_116 : decode cX7_count 116 = .ok (.aload_n 0, 1) := dk_42 (dk_at dksX7_count_5 0 rfl rfl)
theorem dX7_count_117 : decode cX7_count 117 = .ok (.getfield 132, 3) := dk_180 0 132 (dk_at dksX7_count_5 1 rfl rfl)
theorem dX7_count_120 : decode cX7_count 120 = .ok (.ireturn, 1) := dk_172 (dk_at dksX7_count_5 4 rfl rfl)
theorem dX7_count_121 : decode cX7_count 121 = .ok (.aload_n 0, 1) := dk_42 (dk_at dksX7_count_5 5 rfl rfl)
theorem dX7_count_122 : decode cX7_count 122 = .ok (.getfield 34, 3) := dk_180 0 34 (dk_at dksX7_count_5 6 rfl rfl)
theorem dX7_count_125 : decode cX7_count 125 = .ok (.iconst 0, 1) := dk_3 (dk_at dksX7_count_5 9 rfl rfl)
theorem dX7_count_126 : decode cX7_count 126 = .ok (.baload, 1) := dk_51 (dk_at dksX7_count_5 10 rfl rfl)
theorem dX7_count_127 : decode cX7_count 127 = .ok (.ifCond .eq 7, 3) := dk_153 0 7 (dk_at dksX7_count_5 11 rfl rfl)
theorem dX7_count_130 : decode cX7_count 130 = .ok (.iconst 1, 1) := dk_4 (dk_at dksX7_count_5 14 rfl rfl)
theorem dX7_count_131 : decode cX7_count 131 = .ok (.goto 4, 3) := dk_167 0 4 (dk_at dksX7_count_5 15 rfl rfl)
theorem dX7_count_134 : decode cX7_count 134 = .ok (.iconst 0, 1) := dk_3 (dk_at dksX7_count_5 18 rfl rfl)
theorem dX7_count_135 : decode cX7_count 135 = .ok (.aload_n 0, 1) := dk_42 (dk_at dksX7_count_5 19 rfl rfl)
theorem dX7_count_136 : decode cX7_count 136 = .ok (.getfield 34, 3) := dk_180 0 34 (dk_at dksX7_count_5 20 rfl rfl)
theorem dX7_count_139 : decode cX7_count 139 = .ok (.iconst 1, 1) := dk_4 (dk_at dksX7_count_5 23 rfl rfl)
theorem dX7_count_140 : decode cX7_count 140 = .ok (.baload, 1) := dk_51 (dk_at dksX7_count_6 0 rfl rfl)
theorem dX7_count_141 : decode cX7_count 141 = .ok (.ifCond .eq 7, 3) := dk_153 0 7 (dk_at dksX7_count_6 1 rfl rfl)
theorem dX7_count_144 : decode cX7_count 144 = .ok (.iconst 1, 1) := dk_4 (dk_at dksX7_count_6 4 rfl rfl)
theorem dX7_count_145 : decode cX7_count 145 = .ok (.goto 4, 3) := dk_167 0 4 (dk_at dksX7_count_6 5 rfl rfl)
theorem dX7_count_148 : decode cX7_count 148 = .ok (.iconst 0, 1) := dk_3 (dk_at dksX7_count_6 8 rfl rfl)
theorem dX7_count_149 : decode cX7_count 149 = .ok (.iadd, 1) := dk_96 (dk_at dksX7_count_6 9 rfl rfl)
theorem dX7_count_150 : decode cX7_count 150 = .ok (.ireturn, 1) := dk_172 (dk_at dksX7_count_6 10 rfl rfl)
theorem dX7_count_151 : decode cX7_count 151 = .ok (.aload_n 0, 1) := dk_42 (dk_at dksX7_count_6 11 rfl rfl)
theorem dX7_count_152 : decode cX7_count 152 = .ok (.getfield 53, 3) := dk_180 0 53 (dk_at dksX7_count_6 12 rfl rfl)
theorem dX7_count_155 : decode cX7_count 155 = .ok (.ireturn, 1) := dk_172 (dk_at dksX7_count_6 15 rfl rfl)
theorem dX7_count_156 : decode cX7_count 156 = .ok (.aload_n 0, 1) := dk_42 (dk_at dksX7_count_6 16 rfl rfl)
theorem dX7_count_157 : decode cX7_count 157 = .ok (.getfield 38, 3) := dk_180 0 38 (dk_at dksX7_count_6 17 rfl rfl)
theorem dX7_count_160 : decode cX7_count 160 = .ok (.iconst 0, 1) := dk_3 (dk_at dksX7_count_6 20 rfl rfl)
theorem dX7_count_161 : decode cX7_count 161 = .ok (.iaload, 1) := dk_46 (dk_at dksX7_count_6 21 rfl rfl)
theorem dX7_count_162 : decode cX7_count 162 = .ok (.bipush (-4), 2) := dk_16 252 (dk_at dksX7_count_6 22 rfl rfl)
theorem dX7_count_164 : decode cX7_count 164 = .ok (.if_icmp .ne 8, 3) := dk_160 0 8 (dk_at dksX7_count_7 0 rfl rfl)
theorem dX7_count_167 : decode cX7_count 167 = .ok (.bipush (-4), 2) := dk_16 252 (dk_at dksX7_count_7 3 rfl rfl)
theorem dX7_count_169 : decode cX7_count 169 = .ok (.goto 9, 3) := dk_167 0 9 (dk_at dksX7_count_7 5 rfl rfl)
theorem dX7_count_172 : decode cX7_count 172 = .ok (.aload_n 0, 1) := dk_42 (dk_at dksX7_count_7 8 rfl rfl)
theorem dX7_count_173 : decode cX7_count 173 = .ok (.getfield 41, 3) := dk_180 0 41 (dk_at dksX7_count_7 9 rfl rfl)
theorem dX7_count_176 : decode cX7_count 176 = .ok (.iconst 0, 1) := dk_3 (dk_at dksX7_count_7 12 rfl rfl)
theorem dX7_count_177 : decode cX7_count 177 = .ok (.iaload, 1) := dk_46 (dk_at dksX7_count_7 13 rfl rfl)
theorem dX7_count_178 : decode cX7_count 178 = .ok (.ireturn, 1) := dk_172 (dk_at dksX7_count_7 14 rfl rfl)
theorem dX7_count_179 : decode cX7_count 179 = .ok (.iload_n 2, 1) := dk_28 (dk_at dksX7_count_7 15 rfl rfl)
theorem dX7_count_180 : decode cX7_count 180 = .ok (.ireturn, 1) := dk_172 (dk_at dksX7_count_7 16 rfl rfl)
theorem dX7_count_181 : decode cX7_count 181 = .ok (.iload_n 3, 1) := dk_29 (dk_at dksX7_count_7 17 rfl rfl)
theorem dX7_count_182 : decode cX7_count 182 = .ok (.ireturn, 1) := dk_172 (dk_at dksX7_count_7 18 rfl rfl)
theorem dX7_count_183 : decode cX7_count 183 = .ok (.iconst (-1), 1) := dk_2 (dk_at dksX7_count_7 19 rfl rfl)
theorem dX7_count_184 : decode cX7_count 184 = .ok (.ireturn, 1) := dk_172 (dk_at dksX7_count_7 20 rfl rfl)
theorem q67 : (Jvm.Cond.initialized "HedgehogLotsModel") ∈ lw_all := lw_g (lw_at lw_m1 8 rfl) rfl
theorem q956 : (Jvm.Cond.instantiable "HedgehogLotsModel" (29 : Nat)) ∈ lw_all := lw_g (lw_at lw_m4 177 rfl) rfl
theorem q958 : (Jvm.Cond.instanceMethod ({ cls := "HedgehogLotsModel", name := "<init>", desc := "()V" } : Jvm.MethodName)) ∈ lw_all := lw_g (lw_at lw_m4 179 rfl) rfl
theorem q959 : (Jvm.Cond.code ({ cls := "HedgehogLotsModel", name := "<init>", desc := "()V" } : Jvm.MethodName) prog_11_method_1_code (1 : Nat) (Option.none : Option Jvm.ClassFile.FieldType)) ∈ lw_all := lw_g (lw_at lw_m4 180 rfl) rfl
theorem q960 : (Jvm.Cond.methodLink "HedgehogLotsModel" (1 : Nat) ({ cls := "java/lang/Object", name := "<init>", desc := "()V" } : Jvm.MethodName)) ∈ lw_all := lw_g (lw_at lw_m4 181 rfl) rfl
theorem q961 : (Jvm.Cond.fieldLink "HedgehogLotsModel" (7 : Nat) "HedgehogLotsModel" "state" "[I") ∈ lw_all := lw_g (lw_at lw_m4 182 rfl) rfl
theorem q962 : (Jvm.Cond.fieldLink "HedgehogLotsModel" (129 : Nat) "HedgehogLotsModel" "hogMany" "I") ∈ lw_all := lw_g (lw_at lw_m4 183 rfl) rfl
theorem q963 : (Jvm.Cond.fieldLink "HedgehogLotsModel" (13 : Nat) "HedgehogLotsModel" "readPage" "[I") ∈ lw_all := lw_g (lw_at lw_m4 184 rfl) rfl
theorem q964 : (Jvm.Cond.fieldLink "HedgehogLotsModel" (102 : Nat) "HedgehogLotsModel" "readHogs" "I") ∈ lw_all := lw_g (lw_at lw_m4 185 rfl) rfl
theorem q965 : (Jvm.Cond.fieldLink "HedgehogLotsModel" (109 : Nat) "HedgehogLotsModel" "high" "I") ∈ lw_all := lw_g (lw_at lw_m4 186 rfl) rfl
theorem q966 : (Jvm.Cond.fieldLink "HedgehogLotsModel" (16 : Nat) "HedgehogLotsModel" "tape" "[I") ∈ lw_all := lw_g (lw_at lw_m4 187 rfl) rfl
theorem q967 : (Jvm.Cond.fieldLink "HedgehogLotsModel" (53 : Nat) "HedgehogLotsModel" "taped" "I") ∈ lw_all := lw_g (lw_at lw_m4 188 rfl) rfl
theorem q968 : (Jvm.Cond.fieldLink "HedgehogLotsModel" (126 : Nat) "HedgehogLotsModel" "fault" "I") ∈ lw_all := lw_g (lw_at lw_m4 189 rfl) rfl
theorem q969 : (Jvm.Cond.fieldLink "HedgehogLotsModel" (57 : Nat) "HedgehogLotsModel" "broken" "I") ∈ lw_all := lw_g (lw_at lw_m4 190 rfl) rfl
theorem q970 : (Jvm.Cond.fieldLink "HedgehogLotsModel" (63 : Nat) "HedgehogLotsModel" "brokenAt" "I") ∈ lw_all := lw_g (lw_at lw_m4 191 rfl) rfl
theorem q971 : (Jvm.Cond.fieldLink "HedgehogLotsModel" (69 : Nat) "HedgehogLotsModel" "spot" "I") ∈ lw_all := lw_g (lw_at lw_m4 192 rfl) rfl
theorem q972 : (Jvm.Cond.fieldLink "HedgehogLotsModel" (60 : Nat) "HedgehogLotsModel" "here" "I") ∈ lw_all := lw_g (lw_at lw_m4 193 rfl) rfl
theorem q973 : (Jvm.Cond.fieldLink "HedgehogLotsModel" (66 : Nat) "HedgehogLotsModel" "token" "I") ∈ lw_all := lw_g (lw_at lw_m4 194 rfl) rfl
theorem q974 : (Jvm.Cond.fieldLink "HedgehogLotsModel" (76 : Nat) "HedgehogLotsModel" "value" "I") ∈ lw_all := lw_g (lw_at lw_m4 195 rfl) rfl
theorem q975 : (Jvm.Cond.fieldLink "HedgehogLotsModel" (19 : Nat) "HedgehogLotsModel" "cuts" "[I") ∈ lw_all := lw_g (lw_at lw_m4 196 rfl) rfl
theorem q976 : (Jvm.Cond.fieldLink "HedgehogLotsModel" (22 : Nat) "HedgehogLotsModel" "letters" "[I") ∈ lw_all := lw_g (lw_at lw_m4 197 rfl) rfl
theorem q977 : (Jvm.Cond.fieldLink "HedgehogLotsModel" (145 : Nat) "HedgehogLotsModel" "rested" "I") ∈ lw_all := lw_g (lw_at lw_m4 198 rfl) rfl
theorem q978 : (Jvm.Cond.fieldLink "HedgehogLotsModel" (148 : Nat) "HedgehogLotsModel" "ended" "I") ∈ lw_all := lw_g (lw_at lw_m4 199 rfl) rfl
theorem q979 : (Jvm.Cond.fieldLink "HedgehogLotsModel" (151 : Nat) "HedgehogLotsModel" "met" "I") ∈ lw_all := lw_g (lw_at lw_m4 200 rfl) rfl
theorem q980 : (Jvm.Cond.fieldLink "HedgehogLotsModel" (154 : Nat) "HedgehogLotsModel" "isOpen" "Z") ∈ lw_all := lw_g (lw_at lw_m4 201 rfl) rfl
theorem q981 : (Jvm.Cond.fieldLink "HedgehogLotsModel" (25 : Nat) "HedgehogLotsModel" "columns" "[I") ∈ lw_all := lw_g (lw_at lw_m4 202 rfl) rfl
theorem q982 : (Jvm.Cond.fieldLink "HedgehogLotsModel" (28 : Nat) "HedgehogLotsModel" "seen" "[I") ∈ lw_all := lw_g (lw_at lw_m4 203 rfl) rfl
theorem q983 : (Jvm.Cond.fieldLink "HedgehogLotsModel" (132 : Nat) "HedgehogLotsModel" "seenMany" "I") ∈ lw_all := lw_g (lw_at lw_m4 204 rfl) rfl
theorem q984 : (Jvm.Cond.fieldLink "HedgehogLotsModel" (31 : Nat) "HedgehogLotsModel" "restBy" "[I") ∈ lw_all := lw_g (lw_at lw_m4 205 rfl) rfl
theorem q985 : (Jvm.Cond.fieldLink "HedgehogLotsModel" (34 : Nat) "HedgehogLotsModel" "isKept" "[Z") ∈ lw_all := lw_g (lw_at lw_m4 206 rfl) rfl
theorem q986 : (Jvm.Cond.fieldLink "HedgehogLotsModel" (38 : Nat) "HedgehogLotsModel" "lanes" "[I") ∈ lw_all := lw_g (lw_at lw_m4 207 rfl) rfl
theorem q987 : (Jvm.Cond.fieldLink "HedgehogLotsModel" (41 : Nat) "HedgehogLotsModel" "lengths" "[I") ∈ lw_all := lw_g (lw_at lw_m4 208 rfl) rfl
theorem q988 : (Jvm.Cond.fieldLink "HedgehogLotsModel" (44 : Nat) "HedgehogLotsModel" "cells" "[I") ∈ lw_all := lw_g (lw_at lw_m4 209 rfl) rfl
theorem q989 : (Jvm.Cond.fieldLink "HedgehogLotsModel" (249 : Nat) "HedgehogLotsModel" "torn" "I") ∈ lw_all := lw_g (lw_at lw_m4 210 rfl) rfl
theorem q990 : (Jvm.Cond.laysFinal "HedgehogLotsModel" "HedgehogLotsModel" "state" "[I") ∈ lw_all := lw_g (lw_at lw_m4 211 rfl) rfl
theorem q991 : (Jvm.Cond.soleField "HedgehogLotsModel" "state") ∈ lw_all := lw_g (lw_at lw_m4 212 rfl) rfl
theorem q992 : (Jvm.Cond.lays "HedgehogLotsModel" "HedgehogLotsModel" "hogMany" "I") ∈ lw_all := lw_g (lw_at lw_m4 213 rfl) rfl
theorem q993 : (Jvm.Cond.soleField "HedgehogLotsModel" "hogMany") ∈ lw_all := lw_g (lw_at lw_m4 214 rfl) rfl
theorem q994 : (Jvm.Cond.laysFinal "HedgehogLotsModel" "HedgehogLotsModel" "readPage" "[I") ∈ lw_all := lw_g (lw_at lw_m4 215 rfl) rfl
theorem q995 : (Jvm.Cond.soleField "HedgehogLotsModel" "readPage") ∈ lw_all := lw_g (lw_at lw_m4 216 rfl) rfl
theorem q996 : (Jvm.Cond.lays "HedgehogLotsModel" "HedgehogLotsModel" "readHogs" "I") ∈ lw_all := lw_g (lw_at lw_m4 217 rfl) rfl
theorem q997 : (Jvm.Cond.soleField "HedgehogLotsModel" "readHogs") ∈ lw_all := lw_g (lw_at lw_m4 218 rfl) rfl
theorem q998 : (Jvm.Cond.lays "HedgehogLotsModel" "HedgehogLotsModel" "high" "I") ∈ lw_all := lw_g (lw_at lw_m4 219 rfl) rfl
theorem q999 : (Jvm.Cond.soleField "HedgehogLotsModel" "high") ∈ lw_all := lw_g (lw_at lw_m4 220 rfl) rfl
theorem q1000 : (Jvm.Cond.laysFinal "HedgehogLotsModel" "HedgehogLotsModel" "tape" "[I") ∈ lw_all := lw_g (lw_at lw_m4 221 rfl) rfl
theorem q1001 : (Jvm.Cond.soleField "HedgehogLotsModel" "tape") ∈ lw_all := lw_g (lw_at lw_m4 222 rfl) rfl
theorem q1002 : (Jvm.Cond.lays "HedgehogLotsModel" "HedgehogLotsModel" "taped" "I") ∈ lw_all := lw_g (lw_at lw_m4 223 rfl) rfl
theorem q1003 : (Jvm.Cond.soleField "HedgehogLotsModel" "taped") ∈ lw_all := lw_g (lw_at lw_m4 224 rfl) rfl
theorem q1004 : (Jvm.Cond.lays "HedgehogLotsModel" "HedgehogLotsModel" "fault" "I") ∈ lw_all := lw_g (lw_at lw_m4 225 rfl) rfl
theorem q1005 : (Jvm.Cond.soleField "HedgehogLotsModel" "fault") ∈ lw_all := lw_g (lw_at lw_m4 226 rfl) rfl
theorem q1006 : (Jvm.Cond.lays "HedgehogLotsModel" "HedgehogLotsModel" "broken" "I") ∈ lw_all := lw_g (lw_at lw_m4 227 rfl) rfl
theorem q1007 : (Jvm.Cond.soleField "HedgehogLotsModel" "broken") ∈ lw_all := lw_g (lw_at lw_m4 228 rfl) rfl
theorem q1008 : (Jvm.Cond.lays "HedgehogLotsModel" "HedgehogLotsModel" "brokenAt" "I") ∈ lw_all := lw_g (lw_at lw_m4 229 rfl) rfl
theorem q1009 : (Jvm.Cond.soleField "HedgehogLotsModel" "brokenAt") ∈ lw_all := lw_g (lw_at lw_m4 230 rfl) rfl
theorem q1010 : (Jvm.Cond.lays "HedgehogLotsModel" "HedgehogLotsModel" "spot" "I") ∈ lw_all := lw_g (lw_at lw_m4 231 rfl) rfl
theorem q1011 : (Jvm.Cond.soleField "HedgehogLotsModel" "spot") ∈ lw_all := lw_g (lw_at lw_m4 232 rfl) rfl
theorem q1012 : (Jvm.Cond.lays "HedgehogLotsModel" "HedgehogLotsModel" "here" "I") ∈ lw_all := lw_g (lw_at lw_m4 233 rfl) rfl
theorem q1013 : (Jvm.Cond.soleField "HedgehogLotsModel" "here") ∈ lw_all := lw_g (lw_at lw_m4 234 rfl) rfl
theorem q1014 : (Jvm.Cond.lays "HedgehogLotsModel" "HedgehogLotsModel" "token" "I") ∈ lw_all := lw_g (lw_at lw_m4 235 rfl) rfl
theorem q1015 : (Jvm.Cond.soleField "HedgehogLotsModel" "token") ∈ lw_all := lw_g (lw_at lw_m4 236 rfl) rfl
theorem q1016 : (Jvm.Cond.lays "HedgehogLotsModel" "HedgehogLotsModel" "value" "I") ∈ lw_all := lw_g (lw_at lw_m4 237 rfl) rfl
theorem q1017 : (Jvm.Cond.soleField "HedgehogLotsModel" "value") ∈ lw_all := lw_g (lw_at lw_m4 238 rfl) rfl
theorem q1018 : (Jvm.Cond.laysFinal "HedgehogLotsModel" "HedgehogLotsModel" "cuts" "[I") ∈ lw_all := lw_g (lw_at lw_m4 239 rfl) rfl
theorem q1019 : (Jvm.Cond.soleField "HedgehogLotsModel" "cuts") ∈ lw_all := lw_g (lw_at lw_m5 0 rfl) rfl
theorem q1020 : (Jvm.Cond.laysFinal "HedgehogLotsModel" "HedgehogLotsModel" "letters" "[I") ∈ lw_all := lw_g (lw_at lw_m5 1 rfl) rfl
theorem q1021 : (Jvm.Cond.soleField "HedgehogLotsModel" "letters") ∈ lw_all := lw_g (lw_at lw_m5 2 rfl) rfl
theorem q1022 : (Jvm.Cond.lays "HedgehogLotsModel" "HedgehogLotsModel" "rested" "I") ∈ lw_all := lw_g (lw_at lw_m5 3 rfl) rfl
theorem q1023 : (Jvm.Cond.soleField "HedgehogLotsModel" "rested") ∈ lw_all := lw_g (lw_at lw_m5 4 rfl) rfl
theorem q1024 : (Jvm.Cond.lays "HedgehogLotsModel" "HedgehogLotsModel" "ended" "I") ∈ lw_all := lw_g (lw_at lw_m5 5 rfl) rfl
theorem q1025 : (Jvm.Cond.soleField "HedgehogLotsModel" "ended") ∈ lw_all := lw_g (lw_at lw_m5 6 rfl) rfl
theorem q1026 : (Jvm.Cond.lays "HedgehogLotsModel" "HedgehogLotsModel" "met" "I") ∈ lw_all := lw_g (lw_at lw_m5 7 rfl) rfl
theorem q1027 : (Jvm.Cond.soleField "HedgehogLotsModel" "met") ∈ lw_all := lw_g (lw_at lw_m5 8 rfl) rfl
theorem q1028 : (Jvm.Cond.lays "HedgehogLotsModel" "HedgehogLotsModel" "isOpen" "Z") ∈ lw_all := lw_g (lw_at lw_m5 9 rfl) rfl
theorem q1029 : (Jvm.Cond.soleField "HedgehogLotsModel" "isOpen") ∈ lw_all := lw_g (lw_at lw_m5 10 rfl) rfl
theorem q1030 : (Jvm.Cond.laysFinal "HedgehogLotsModel" "HedgehogLotsModel" "columns" "[I") ∈ lw_all := lw_g (lw_at lw_m5 11 rfl) rfl
theorem q1031 : (Jvm.Cond.soleField "HedgehogLotsModel" "columns") ∈ lw_all := lw_g (lw_at lw_m5 12 rfl) rfl
theorem q1032 : (Jvm.Cond.laysFinal "HedgehogLotsModel" "HedgehogLotsModel" "seen" "[I") ∈ lw_all := lw_g (lw_at lw_m5 13 rfl) rfl
theorem q1033 : (Jvm.Cond.soleField "HedgehogLotsModel" "seen") ∈ lw_all := lw_g (lw_at lw_m5 14 rfl) rfl
theorem q1034 : (Jvm.Cond.lays "HedgehogLotsModel" "HedgehogLotsModel" "seenMany" "I") ∈ lw_all := lw_g (lw_at lw_m5 15 rfl) rfl
theorem q1035 : (Jvm.Cond.soleField "HedgehogLotsModel" "seenMany") ∈ lw_all := lw_g (lw_at lw_m5 16 rfl) rfl
theorem q1036 : (Jvm.Cond.laysFinal "HedgehogLotsModel" "HedgehogLotsModel" "restBy" "[I") ∈ lw_all := lw_g (lw_at lw_m5 17 rfl) rfl
theorem q1037 : (Jvm.Cond.soleField "HedgehogLotsModel" "restBy") ∈ lw_all := lw_g (lw_at lw_m5 18 rfl) rfl
theorem q1038 : (Jvm.Cond.laysFinal "HedgehogLotsModel" "HedgehogLotsModel" "isKept" "[Z") ∈ lw_all := lw_g (lw_at lw_m5 19 rfl) rfl
theorem q1039 : (Jvm.Cond.soleField "HedgehogLotsModel" "isKept") ∈ lw_all := lw_g (lw_at lw_m5 20 rfl) rfl
theorem q1040 : (Jvm.Cond.laysFinal "HedgehogLotsModel" "HedgehogLotsModel" "lanes" "[I") ∈ lw_all := lw_g (lw_at lw_m5 21 rfl) rfl
theorem q1041 : (Jvm.Cond.soleField "HedgehogLotsModel" "lanes") ∈ lw_all := lw_g (lw_at lw_m5 22 rfl) rfl
theorem q1042 : (Jvm.Cond.laysFinal "HedgehogLotsModel" "HedgehogLotsModel" "lengths" "[I") ∈ lw_all := lw_g (lw_at lw_m5 23 rfl) rfl
theorem q1043 : (Jvm.Cond.soleField "HedgehogLotsModel" "lengths") ∈ lw_all := lw_g (lw_at lw_m5 24 rfl) rfl
theorem q1044 : (Jvm.Cond.laysFinal "HedgehogLotsModel" "HedgehogLotsModel" "cells" "[I") ∈ lw_all := lw_g (lw_at lw_m5 25 rfl) rfl
theorem q1045 : (Jvm.Cond.soleField "HedgehogLotsModel" "cells") ∈ lw_all := lw_g (lw_at lw_m5 26 rfl) rfl
theorem q1046 : (Jvm.Cond.lays "HedgehogLotsModel" "HedgehogLotsModel" "torn" "I") ∈ lw_all := lw_g (lw_at lw_m5 27 rfl) rfl
theorem q1047 : (Jvm.Cond.soleField "HedgehogLotsModel" "torn") ∈ lw_all := lw_g (lw_at lw_m5 28 rfl) rfl
theorem q1048 : (Jvm.Cond.superclass "HedgehogLotsModel" "java/lang/Object") ∈ lw_all := lw_g (lw_at lw_m5 29 rfl) rfl
theorem q1051 : (Jvm.Cond.instanceMethod ({ cls := "HedgehogLotsModel", name := "feed", desc := "(I)I" } : Jvm.MethodName)) ∈ lw_all := lw_g (lw_at lw_m5 32 rfl) rfl
theorem q1052 : (Jvm.Cond.selects "HedgehogLotsModel" ({ cls := "HedgehogLotsModel", name := "feed", desc := "(I)I" } : Jvm.MethodName) ({ cls := "HedgehogLotsModel", name := "feed", desc := "(I)I" } : Jvm.MethodName)) ∈ lw_all := lw_g (lw_at lw_m5 33 rfl) rfl
theorem q1053 : (Jvm.Cond.code ({ cls := "HedgehogLotsModel", name := "feed", desc := "(I)I" } : Jvm.MethodName) prog_11_method_4_code (2 : Nat) (Option.some Jvm.ClassFile.FieldType.int)) ∈ lw_all := lw_g (lw_at lw_m5 34 rfl) rfl
theorem q1054 : (Jvm.Cond.constantLong "HedgehogLotsModel" (47 : Nat) (127 : Int64)) ∈ lw_all := lw_g (lw_at lw_m5 35 rfl) rfl
theorem q1055 : (Jvm.Cond.methodLink "HedgehogLotsModel" (49 : Nat) ({ cls := "HedgehogLotsModel", name := "in", desc := "(JJJ)Z" } : Jvm.MethodName)) ∈ lw_all := lw_g (lw_at lw_m5 36 rfl) rfl
theorem q1056 : (Jvm.Cond.static ({ cls := "HedgehogLotsModel", name := "in", desc := "(JJJ)Z" } : Jvm.MethodName)) ∈ lw_all := lw_g (lw_at lw_m5 37 rfl) rfl
theorem q1057 : (Jvm.Cond.code ({ cls := "HedgehogLotsModel", name := "in", desc := "(JJJ)Z" } : Jvm.MethodName) prog_11_method_3_code (6 : Nat) (Option.some Jvm.ClassFile.FieldType.boolean)) ∈ lw_all := lw_g (lw_at lw_m5 38 rfl) rfl
theorem q1059 : (Jvm.Cond.instanceMethod ({ cls := "HedgehogLotsModel", name := "end", desc := "(I)I" } : Jvm.MethodName)) ∈ lw_all := lw_g (lw_at lw_m5 40 rfl) rfl
theorem q1060 : (Jvm.Cond.selects "HedgehogLotsModel" ({ cls := "HedgehogLotsModel", name := "end", desc := "(I)I" } : Jvm.MethodName) ({ cls := "HedgehogLotsModel", name := "end", desc := "(I)I" } : Jvm.MethodName)) ∈ lw_all := lw_g (lw_at lw_m5 41 rfl) rfl
theorem q1061 : (Jvm.Cond.code ({ cls := "HedgehogLotsModel", name := "end", desc := "(I)I" } : Jvm.MethodName) prog_11_method_5_code (3 : Nat) (Option.some Jvm.ClassFile.FieldType.int)) ∈ lw_all := lw_g (lw_at lw_m5 42 rfl) rfl
theorem q1063 : (Jvm.Cond.instanceMethod ({ cls := "HedgehogLotsModel", name := "text", desc := "()I" } : Jvm.MethodName)) ∈ lw_all := lw_g (lw_at lw_m5 44 rfl) rfl
theorem q1064 : (Jvm.Cond.selects "HedgehogLotsModel" ({ cls := "HedgehogLotsModel", name := "text", desc := "()I" } : Jvm.MethodName) ({ cls := "HedgehogLotsModel", name := "text", desc := "()I" } : Jvm.MethodName)) ∈ lw_all := lw_g (lw_at lw_m5 45 rfl) rfl
theorem q1065 : (Jvm.Cond.code ({ cls := "HedgehogLotsModel", name := "text", desc := "()I" } : Jvm.MethodName) prog_11_method_16_code (3 : Nat) (Option.some Jvm.ClassFile.FieldType.int)) ∈ lw_all := lw_g (lw_at lw_m5 46 rfl) rfl
theorem q1066 : (Jvm.Cond.methodLink "HedgehogLotsModel" (91 : Nat) ({ cls := "HedgehogLotsModel", name := "step", desc := "()V" } : Jvm.MethodName)) ∈ lw_all := lw_g (lw_at lw_m5 47 rfl) rfl
theorem q1067 : (Jvm.Cond.privateMethod ({ cls := "HedgehogLotsModel", name := "step", desc := "()V" } : Jvm.MethodName)) ∈ lw_tbl := lw_at lw_m5 48 rfl
theorem q1068 : (Jvm.Cond.instanceMethod ({ cls := "HedgehogLotsModel", name := "step", desc := "()V" } : Jvm.MethodName)) ∈ lw_all := lw_g (lw_at lw_m5 49 rfl) rfl
theorem q1069 : (Jvm.Cond.code ({ cls := "HedgehogLotsModel", name := "step", desc := "()V" } : Jvm.MethodName) prog_11_method_9_code (2 : Nat) (Option.none : Option Jvm.ClassFile.FieldType)) ∈ lw_all := lw_g (lw_at lw_m5 50 rfl) rfl
theorem q1070 : (Jvm.Cond.methodLink "HedgehogLotsModel" (72 : Nat) ({ cls := "HedgehogLotsModel", name := "byteAt", desc := "(I)I" } : Jvm.MethodName)) ∈ lw_all := lw_g (lw_at lw_m5 51 rfl) rfl
theorem q1071 : (Jvm.Cond.privateMethod ({ cls := "HedgehogLotsModel", name := "byteAt", desc := "(I)I" } : Jvm.MethodName)) ∈ lw_tbl := lw_at lw_m5 52 rfl
theorem q1072 : (Jvm.Cond.instanceMethod ({ cls := "HedgehogLotsModel", name := "byteAt", desc := "(I)I" } : Jvm.MethodName)) ∈ lw_all := lw_g (lw_at lw_m5 53 rfl) rfl
theorem q1073 : (Jvm.Cond.code ({ cls := "HedgehogLotsModel", name := "byteAt", desc := "(I)I" } : Jvm.MethodName) prog_11_method_6_code (2 : Nat) (Option.some Jvm.ClassFile.FieldType.int)) ∈ lw_all := lw_g (lw_at lw_m5 54 rfl) rfl
theorem q1074 : (Jvm.Cond.constantLong "HedgehogLotsModel" (79 : Nat) (97 : Int64)) ∈ lw_all := lw_g (lw_at lw_m5 55 rfl) rfl
theorem q1075 : (Jvm.Cond.constantLong "HedgehogLotsModel" (81 : Nat) (122 : Int64)) ∈ lw_all := lw_g (lw_at lw_m5 56 rfl) rfl
theorem q1076 : (Jvm.Cond.constantLong "HedgehogLotsModel" (83 : Nat) (48 : Int64)) ∈ lw_all := lw_g (lw_at lw_m5 57 rfl) rfl
theorem q1077 : (Jvm.Cond.constantLong "HedgehogLotsModel" (85 : Nat) (57 : Int64)) ∈ lw_all := lw_g (lw_at lw_m5 58 rfl) rfl
theorem q1078 : (Jvm.Cond.methodLink "HedgehogLotsModel" (87 : Nat) ({ cls := "HedgehogLotsModel", name := "fails", desc := "(I)V" } : Jvm.MethodName)) ∈ lw_all := lw_g (lw_at lw_m5 59 rfl) rfl
theorem q1079 : (Jvm.Cond.privateMethod ({ cls := "HedgehogLotsModel", name := "fails", desc := "(I)V" } : Jvm.MethodName)) ∈ lw_tbl := lw_at lw_m5 60 rfl
theorem q1080 : (Jvm.Cond.instanceMethod ({ cls := "HedgehogLotsModel", name := "fails", desc := "(I)V" } : Jvm.MethodName)) ∈ lw_all := lw_g (lw_at lw_m5 61 rfl) rfl
theorem q1081 : (Jvm.Cond.code ({ cls := "HedgehogLotsModel", name := "fails", desc := "(I)V" } : Jvm.MethodName) prog_11_method_7_code (2 : Nat) (Option.none : Option Jvm.ClassFile.FieldType)) ∈ lw_all := lw_g (lw_at lw_m5 62 rfl) rfl
theorem q1082 : (Jvm.Cond.methodLink "HedgehogLotsModel" (123 : Nat) ({ cls := "HedgehogLotsModel", name := "readLine", desc := "()V" } : Jvm.MethodName)) ∈ lw_all := lw_g (lw_at lw_m5 63 rfl) rfl
theorem q1083 : (Jvm.Cond.privateMethod ({ cls := "HedgehogLotsModel", name := "readLine", desc := "()V" } : Jvm.MethodName)) ∈ lw_tbl := lw_at lw_m5 64 rfl
theorem q1084 : (Jvm.Cond.instanceMethod ({ cls := "HedgehogLotsModel", name := "readLine", desc := "()V" } : Jvm.MethodName)) ∈ lw_all := lw_g (lw_at lw_m5 65 rfl) rfl
theorem q1085 : (Jvm.Cond.code ({ cls := "HedgehogLotsModel", name := "readLine", desc := "()V" } : Jvm.MethodName) prog_11_method_15_code (2 : Nat) (Option.none : Option Jvm.ClassFile.FieldType)) ∈ lw_all := lw_g (lw_at lw_m5 66 rfl) rfl
theorem q1086 : (Jvm.Cond.methodLink "HedgehogLotsModel" (112 : Nat) ({ cls := "HedgehogLotsModel", name := "nameHere", desc := "()I" } : Jvm.MethodName)) ∈ lw_all := lw_g (lw_at lw_m5 67 rfl) rfl
theorem q1087 : (Jvm.Cond.privateMethod ({ cls := "HedgehogLotsModel", name := "nameHere", desc := "()I" } : Jvm.MethodName)) ∈ lw_tbl := lw_at lw_m5 68 rfl
theorem q1088 : (Jvm.Cond.instanceMethod ({ cls := "HedgehogLotsModel", name := "nameHere", desc := "()I" } : Jvm.MethodName)) ∈ lw_all := lw_g (lw_at lw_m5 69 rfl) rfl
theorem q1089 : (Jvm.Cond.code ({ cls := "HedgehogLotsModel", name := "nameHere", desc := "()I" } : Jvm.MethodName) prog_11_method_8_code (4 : Nat) (Option.some Jvm.ClassFile.FieldType.int)) ∈ lw_all := lw_g (lw_at lw_m5 70 rfl) rfl
theorem q1090 : (Jvm.Cond.constantLong "HedgehogLotsModel" (115 : Nat) (6 : Int64)) ∈ lw_all := lw_g (lw_at lw_m5 71 rfl) rfl
theorem q1091 : (Jvm.Cond.methodLink "HedgehogLotsModel" (117 : Nat) ({ cls := "HedgehogLotsModel", name := "isFull", desc := "(I)Z" } : Jvm.MethodName)) ∈ lw_all := lw_g (lw_at lw_m5 72 rfl) rfl
theorem q1092 : (Jvm.Cond.privateMethod ({ cls := "HedgehogLotsModel", name := "isFull", desc := "(I)Z" } : Jvm.MethodName)) ∈ lw_tbl := lw_at lw_m5 73 rfl
theorem q1093 : (Jvm.Cond.instanceMethod ({ cls := "HedgehogLotsModel", name := "isFull", desc := "(I)Z" } : Jvm.MethodName)) ∈ lw_all := lw_g (lw_at lw_m5 74 rfl) rfl
theorem q1094 : (Jvm.Cond.code ({ cls := "HedgehogLotsModel", name := "isFull", desc := "(I)Z" } : Jvm.MethodName) prog_11_method_14_code (2 : Nat) (Option.some Jvm.ClassFile.FieldType.boolean)) ∈ lw_all := lw_g (lw_at lw_m5 75 rfl) rfl
theorem q1095 : (Jvm.Cond.methodLink "HedgehogLotsModel" (120 : Nat) ({ cls := "HedgehogLotsModel", name := "readMore", desc := "(I)V" } : Jvm.MethodName)) ∈ lw_all := lw_g (lw_at lw_m5 76 rfl) rfl
theorem q1096 : (Jvm.Cond.privateMethod ({ cls := "HedgehogLotsModel", name := "readMore", desc := "(I)V" } : Jvm.MethodName)) ∈ lw_tbl := lw_at lw_m5 77 rfl
theorem q1097 : (Jvm.Cond.instanceMethod ({ cls := "HedgehogLotsModel", name := "readMore", desc := "(I)V" } : Jvm.MethodName)) ∈ lw_all := lw_g (lw_at lw_m5 78 rfl) rfl
theorem q1098 : (Jvm.Cond.code ({ cls := "HedgehogLotsModel", name := "readMore", desc := "(I)V" } : Jvm.MethodName) prog_11_method_13_code (4 : Nat) (Option.none : Option Jvm.ClassFile.FieldType)) ∈ lw_all := lw_g (lw_at lw_m5 79 rfl) rfl
theorem q1099 : (Jvm.Cond.methodLink "HedgehogLotsModel" (98 : Nat) ({ cls := "HedgehogLotsModel", name := "number", desc := "(II)I" } : Jvm.MethodName)) ∈ lw_all := lw_g (lw_at lw_m5 80 rfl) rfl
theorem q1100 : (Jvm.Cond.privateMethod ({ cls := "HedgehogLotsModel", name := "number", desc := "(II)I" } : Jvm.MethodName)) ∈ lw_tbl := lw_at lw_m5 81 rfl
theorem q1101 : (Jvm.Cond.instanceMethod ({ cls := "HedgehogLotsModel", name := "number", desc := "(II)I" } : Jvm.MethodName)) ∈ lw_all := lw_g (lw_at lw_m5 82 rfl) rfl
theorem q1102 : (Jvm.Cond.code ({ cls := "HedgehogLotsModel", name := "number", desc := "(II)I" } : Jvm.MethodName) prog_11_method_10_code (4 : Nat) (Option.some Jvm.ClassFile.FieldType.int)) ∈ lw_all := lw_g (lw_at lw_m5 83 rfl) rfl
theorem q1103 : (Jvm.Cond.methodLink "HedgehogLotsModel" (105 : Nat) ({ cls := "HedgehogLotsModel", name := "cellHere", desc := "()I" } : Jvm.MethodName)) ∈ lw_all := lw_g (lw_at lw_m5 84 rfl) rfl
theorem q1104 : (Jvm.Cond.privateMethod ({ cls := "HedgehogLotsModel", name := "cellHere", desc := "()I" } : Jvm.MethodName)) ∈ lw_tbl := lw_at lw_m5 85 rfl
theorem q1105 : (Jvm.Cond.instanceMethod ({ cls := "HedgehogLotsModel", name := "cellHere", desc := "()I" } : Jvm.MethodName)) ∈ lw_all := lw_g (lw_at lw_m5 86 rfl) rfl
theorem q1106 : (Jvm.Cond.code ({ cls := "HedgehogLotsModel", name := "cellHere", desc := "()I" } : Jvm.MethodName) prog_11_method_12_code (1 : Nat) (Option.some Jvm.ClassFile.FieldType.int)) ∈ lw_all := lw_g (lw_at lw_m5 87 rfl) rfl
theorem q1107 : (Jvm.Cond.methodLink "HedgehogLotsModel" (94 : Nat) ({ cls := "HedgehogLotsModel", name := "isReadCell", desc := "(I)Z" } : Jvm.MethodName)) ∈ lw_all := lw_g (lw_at lw_m5 88 rfl) rfl
theorem q1108 : (Jvm.Cond.privateMethod ({ cls := "HedgehogLotsModel", name := "isReadCell", desc := "(I)Z" } : Jvm.MethodName)) ∈ lw_tbl := lw_at lw_m5 89 rfl
theorem q1109 : (Jvm.Cond.instanceMethod ({ cls := "HedgehogLotsModel", name := "isReadCell", desc := "(I)Z" } : Jvm.MethodName)) ∈ lw_all := lw_g (lw_at lw_m5 90 rfl) rfl
theorem q1110 : (Jvm.Cond.code ({ cls := "HedgehogLotsModel", name := "isReadCell", desc := "(I)Z" } : Jvm.MethodName) prog_11_method_11_code (4 : Nat) (Option.some Jvm.ClassFile.FieldType.boolean)) ∈ lw_all := lw_g (lw_at lw_m5 91 rfl) rfl
theorem q1112 : (Jvm.Cond.instanceMethod ({ cls := "HedgehogLotsModel", name := "fault", desc := "()I" } : Jvm.MethodName)) ∈ lw_all := lw_g (lw_at lw_m5 93 rfl) rfl
theorem q1113 : (Jvm.Cond.selects "HedgehogLotsModel" ({ cls := "HedgehogLotsModel", name := "fault", desc := "()I" } : Jvm.MethodName) ({ cls := "HedgehogLotsModel", name := "fault", desc := "()I" } : Jvm.MethodName)) ∈ lw_all := lw_g (lw_at lw_m5 94 rfl) rfl
theorem q1114 : (Jvm.Cond.code ({ cls := "HedgehogLotsModel", name := "fault", desc := "()I" } : Jvm.MethodName) prog_11_method_17_code (1 : Nat) (Option.some Jvm.ClassFile.FieldType.int)) ∈ lw_all := lw_g (lw_at lw_m5 95 rfl) rfl
theorem q1116 : (Jvm.Cond.instanceMethod ({ cls := "HedgehogLotsModel", name := "rule", desc := "(I)I" } : Jvm.MethodName)) ∈ lw_all := lw_g (lw_at lw_m5 97 rfl) rfl
theorem q1117 : (Jvm.Cond.selects "HedgehogLotsModel" ({ cls := "HedgehogLotsModel", name := "rule", desc := "(I)I" } : Jvm.MethodName) ({ cls := "HedgehogLotsModel", name := "rule", desc := "(I)I" } : Jvm.MethodName)) ∈ lw_all := lw_g (lw_at lw_m5 98 rfl) rfl
theorem q1118 : (Jvm.Cond.code ({ cls := "HedgehogLotsModel", name := "rule", desc := "(I)I" } : Jvm.MethodName) prog_11_method_33_code (4 : Nat) (Option.some Jvm.ClassFile.FieldType.int)) ∈ lw_all := lw_g (lw_at lw_m5 99 rfl) rfl
theorem q1119 : (Jvm.Cond.methodLink "HedgehogLotsModel" (164 : Nat) ({ cls := "HedgehogLotsModel", name := "runsOn", desc := "(IIII)V" } : Jvm.MethodName)) ∈ lw_all := lw_g (lw_at lw_m5 100 rfl) rfl
theorem q1120 : (Jvm.Cond.privateMethod ({ cls := "HedgehogLotsModel", name := "runsOn", desc := "(IIII)V" } : Jvm.MethodName)) ∈ lw_tbl := lw_at lw_m5 101 rfl
theorem q1121 : (Jvm.Cond.instanceMethod ({ cls := "HedgehogLotsModel", name := "runsOn", desc := "(IIII)V" } : Jvm.MethodName)) ∈ lw_all := lw_g (lw_at lw_m5 102 rfl) rfl
theorem q1122 : (Jvm.Cond.code ({ cls := "HedgehogLotsModel", name := "runsOn", desc := "(IIII)V" } : Jvm.MethodName) prog_11_method_29_code (12 : Nat) (Option.none : Option Jvm.ClassFile.FieldType)) ∈ lw_all := lw_g (lw_at lw_m5 103 rfl) rfl
theorem q1123 : (Jvm.Cond.methodLink "HedgehogLotsModel" (139 : Nat) ({ cls := "HedgehogLotsModel", name := "pegOn", desc := "(II)I" } : Jvm.MethodName)) ∈ lw_all := lw_g (lw_at lw_m5 104 rfl) rfl
theorem q1124 : (Jvm.Cond.privateMethod ({ cls := "HedgehogLotsModel", name := "pegOn", desc := "(II)I" } : Jvm.MethodName)) ∈ lw_tbl := lw_at lw_m5 105 rfl
theorem q1125 : (Jvm.Cond.instanceMethod ({ cls := "HedgehogLotsModel", name := "pegOn", desc := "(II)I" } : Jvm.MethodName)) ∈ lw_all := lw_g (lw_at lw_m5 106 rfl) rfl
theorem q1126 : (Jvm.Cond.code ({ cls := "HedgehogLotsModel", name := "pegOn", desc := "(II)I" } : Jvm.MethodName) prog_11_method_24_code (4 : Nat) (Option.some Jvm.ClassFile.FieldType.int)) ∈ lw_all := lw_g (lw_at lw_m5 107 rfl) rfl
theorem q1127 : (Jvm.Cond.methodLink "HedgehogLotsModel" (142 : Nat) ({ cls := "HedgehogLotsModel", name := "slugOn", desc := "(II)I" } : Jvm.MethodName)) ∈ lw_all := lw_g (lw_at lw_m5 108 rfl) rfl
theorem q1128 : (Jvm.Cond.privateMethod ({ cls := "HedgehogLotsModel", name := "slugOn", desc := "(II)I" } : Jvm.MethodName)) ∈ lw_tbl := lw_at lw_m5 109 rfl
theorem q1129 : (Jvm.Cond.instanceMethod ({ cls := "HedgehogLotsModel", name := "slugOn", desc := "(II)I" } : Jvm.MethodName)) ∈ lw_all := lw_g (lw_at lw_m5 110 rfl) rfl
theorem q1130 : (Jvm.Cond.code ({ cls := "HedgehogLotsModel", name := "slugOn", desc := "(II)I" } : Jvm.MethodName) prog_11_method_25_code (4 : Nat) (Option.some Jvm.ClassFile.FieldType.int)) ∈ lw_all := lw_g (lw_at lw_m5 111 rfl) rfl
theorem q1131 : (Jvm.Cond.methodLink "HedgehogLotsModel" (158 : Nat) ({ cls := "HedgehogLotsModel", name := "losesOf", desc := "(I)I" } : Jvm.MethodName)) ∈ lw_all := lw_g (lw_at lw_m5 112 rfl) rfl
theorem q1132 : (Jvm.Cond.static ({ cls := "HedgehogLotsModel", name := "losesOf", desc := "(I)I" } : Jvm.MethodName)) ∈ lw_all := lw_g (lw_at lw_m5 113 rfl) rfl
theorem q1133 : (Jvm.Cond.code ({ cls := "HedgehogLotsModel", name := "losesOf", desc := "(I)I" } : Jvm.MethodName) prog_11_method_27_code (1 : Nat) (Option.some Jvm.ClassFile.FieldType.int)) ∈ lw_all := lw_g (lw_at lw_m5 114 rfl) rfl
theorem q1134 : (Jvm.Cond.methodLink "HedgehogLotsModel" (161 : Nat) ({ cls := "HedgehogLotsModel", name := "turnOf", desc := "(II)I" } : Jvm.MethodName)) ∈ lw_all := lw_g (lw_at lw_m5 115 rfl) rfl
theorem q1135 : (Jvm.Cond.static ({ cls := "HedgehogLotsModel", name := "turnOf", desc := "(II)I" } : Jvm.MethodName)) ∈ lw_all := lw_g (lw_at lw_m5 116 rfl) rfl
theorem q1136 : (Jvm.Cond.code ({ cls := "HedgehogLotsModel", name := "turnOf", desc := "(II)I" } : Jvm.MethodName) prog_11_method_28_code (3 : Nat) (Option.some Jvm.ClassFile.FieldType.int)) ∈ lw_all := lw_g (lw_at lw_m5 117 rfl) rfl
theorem q1137 : (Jvm.Cond.methodLink "HedgehogLotsModel" (172 : Nat) ({ cls := "HedgehogLotsModel", name := "winsOn", desc := "(II)I" } : Jvm.MethodName)) ∈ lw_all := lw_g (lw_at lw_m5 118 rfl) rfl
theorem q1138 : (Jvm.Cond.privateMethod ({ cls := "HedgehogLotsModel", name := "winsOn", desc := "(II)I" } : Jvm.MethodName)) ∈ lw_tbl := lw_at lw_m5 119 rfl
theorem q1139 : (Jvm.Cond.instanceMethod ({ cls := "HedgehogLotsModel", name := "winsOn", desc := "(II)I" } : Jvm.MethodName)) ∈ lw_all := lw_g (lw_at lw_m5 120 rfl) rfl
theorem q1140 : (Jvm.Cond.code ({ cls := "HedgehogLotsModel", name := "winsOn", desc := "(II)I" } : Jvm.MethodName) prog_11_method_31_code (6 : Nat) (Option.some Jvm.ClassFile.FieldType.int)) ∈ lw_all := lw_g (lw_at lw_m5 121 rfl) rfl
theorem q1141 : (Jvm.Cond.methodLink "HedgehogLotsModel" (168 : Nat) ({ cls := "HedgehogLotsModel", name := "winnerOn", desc := "(III)I" } : Jvm.MethodName)) ∈ lw_all := lw_g (lw_at lw_m5 122 rfl) rfl
theorem q1142 : (Jvm.Cond.privateMethod ({ cls := "HedgehogLotsModel", name := "winnerOn", desc := "(III)I" } : Jvm.MethodName)) ∈ lw_tbl := lw_at lw_m5 123 rfl
theorem q1143 : (Jvm.Cond.instanceMethod ({ cls := "HedgehogLotsModel", name := "winnerOn", desc := "(III)I" } : Jvm.MethodName)) ∈ lw_all := lw_g (lw_at lw_m5 124 rfl) rfl
theorem q1144 : (Jvm.Cond.code ({ cls := "HedgehogLotsModel", name := "winnerOn", desc := "(III)I" } : Jvm.MethodName) prog_11_method_30_code (4 : Nat) (Option.some Jvm.ClassFile.FieldType.int)) ∈ lw_all := lw_g (lw_at lw_m5 125 rfl) rfl
theorem q1146 : (Jvm.Cond.instanceMethod ({ cls := "HedgehogLotsModel", name := "peg", desc := "(II)I" } : Jvm.MethodName)) ∈ lw_all := lw_g (lw_at lw_m5 127 rfl) rfl
theorem q1147 : (Jvm.Cond.selects "HedgehogLotsModel" ({ cls := "HedgehogLotsModel", name := "peg", desc := "(II)I" } : Jvm.MethodName) ({ cls := "HedgehogLotsModel", name := "peg", desc := "(II)I" } : Jvm.MethodName)) ∈ lw_all := lw_g (lw_at lw_m5 128 rfl) rfl
theorem q1148 : (Jvm.Cond.code ({ cls := "HedgehogLotsModel", name := "peg", desc := "(II)I" } : Jvm.MethodName) prog_11_method_34_code (5 : Nat) (Option.some Jvm.ClassFile.FieldType.int)) ∈ lw_all := lw_g (lw_at lw_m5 129 rfl) rfl
theorem q1149 : (Jvm.Cond.methodLink "HedgehogLotsModel" (175 : Nat) ({ cls := "HedgehogLotsModel", name := "isPeg", desc := "(I)Z" } : Jvm.MethodName)) ∈ lw_all := lw_g (lw_at lw_m5 130 rfl) rfl
theorem q1150 : (Jvm.Cond.privateMethod ({ cls := "HedgehogLotsModel", name := "isPeg", desc := "(I)Z" } : Jvm.MethodName)) ∈ lw_tbl := lw_at lw_m5 131 rfl
theorem q1151 : (Jvm.Cond.instanceMethod ({ cls := "HedgehogLotsModel", name := "isPeg", desc := "(I)Z" } : Jvm.MethodName)) ∈ lw_all := lw_g (lw_at lw_m5 132 rfl) rfl
theorem q1152 : (Jvm.Cond.code ({ cls := "HedgehogLotsModel", name := "isPeg", desc := "(I)Z" } : Jvm.MethodName) prog_11_method_18_code (2 : Nat) (Option.some Jvm.ClassFile.FieldType.boolean)) ∈ lw_all := lw_g (lw_at lw_m5 133 rfl) rfl
theorem q1153 : (Jvm.Cond.constantLong "HedgehogLotsModel" (178 : Nat) (2 : Int64)) ∈ lw_all := lw_g (lw_at lw_m5 134 rfl) rfl
theorem q1155 : (Jvm.Cond.instanceMethod ({ cls := "HedgehogLotsModel", name := "slug", desc := "(I)I" } : Jvm.MethodName)) ∈ lw_all := lw_g (lw_at lw_m5 136 rfl) rfl
theorem q1156 : (Jvm.Cond.selects "HedgehogLotsModel" ({ cls := "HedgehogLotsModel", name := "slug", desc := "(I)I" } : Jvm.MethodName) ({ cls := "HedgehogLotsModel", name := "slug", desc := "(I)I" } : Jvm.MethodName)) ∈ lw_all := lw_g (lw_at lw_m5 137 rfl) rfl
theorem q1157 : (Jvm.Cond.code ({ cls := "HedgehogLotsModel", name := "slug", desc := "(I)I" } : Jvm.MethodName) prog_11_method_35_code (2 : Nat) (Option.some Jvm.ClassFile.FieldType.int)) ∈ lw_all := lw_g (lw_at lw_m5 138 rfl) rfl
theorem q1159 : (Jvm.Cond.instanceMethod ({ cls := "HedgehogLotsModel", name := "hedgehog", desc := "(II)I" } : Jvm.MethodName)) ∈ lw_all := lw_g (lw_at lw_m5 140 rfl) rfl
theorem q1160 : (Jvm.Cond.selects "HedgehogLotsModel" ({ cls := "HedgehogLotsModel", name := "hedgehog", desc := "(II)I" } : Jvm.MethodName) ({ cls := "HedgehogLotsModel", name := "hedgehog", desc := "(II)I" } : Jvm.MethodName)) ∈ lw_all := lw_g (lw_at lw_m5 141 rfl) rfl
theorem q1161 : (Jvm.Cond.code ({ cls := "HedgehogLotsModel", name := "hedgehog", desc := "(II)I" } : Jvm.MethodName) prog_11_method_36_code (5 : Nat) (Option.some Jvm.ClassFile.FieldType.int)) ∈ lw_all := lw_g (lw_at lw_m5 142 rfl) rfl
theorem q1162 : (Jvm.Cond.methodLink "HedgehogLotsModel" (180 : Nat) ({ cls := "HedgehogLotsModel", name := "isHog", desc := "(I)Z" } : Jvm.MethodName)) ∈ lw_all := lw_g (lw_at lw_m5 143 rfl) rfl
theorem q1163 : (Jvm.Cond.privateMethod ({ cls := "HedgehogLotsModel", name := "isHog", desc := "(I)Z" } : Jvm.MethodName)) ∈ lw_tbl := lw_at lw_m5 144 rfl
theorem q1164 : (Jvm.Cond.instanceMethod ({ cls := "HedgehogLotsModel", name := "isHog", desc := "(I)Z" } : Jvm.MethodName)) ∈ lw_all := lw_g (lw_at lw_m5 145 rfl) rfl
theorem q1165 : (Jvm.Cond.code ({ cls := "HedgehogLotsModel", name := "isHog", desc := "(I)Z" } : Jvm.MethodName) prog_11_method_19_code (2 : Nat) (Option.some Jvm.ClassFile.FieldType.boolean)) ∈ lw_all := lw_g (lw_at lw_m5 146 rfl) rfl
theorem q1166 : (Jvm.Cond.constantLong "HedgehogLotsModel" (137 : Nat) (3 : Int64)) ∈ lw_all := lw_g (lw_at lw_m5 147 rfl) rfl
theorem q1168 : (Jvm.Cond.instanceMethod ({ cls := "HedgehogLotsModel", name := "suit", desc := "(II)I" } : Jvm.MethodName)) ∈ lw_all := lw_g (lw_at lw_m5 149 rfl) rfl
theorem q1169 : (Jvm.Cond.selects "HedgehogLotsModel" ({ cls := "HedgehogLotsModel", name := "suit", desc := "(II)I" } : Jvm.MethodName) ({ cls := "HedgehogLotsModel", name := "suit", desc := "(II)I" } : Jvm.MethodName)) ∈ lw_all := lw_g (lw_at lw_m5 150 rfl) rfl
theorem q1170 : (Jvm.Cond.code ({ cls := "HedgehogLotsModel", name := "suit", desc := "(II)I" } : Jvm.MethodName) prog_11_method_37_code (3 : Nat) (Option.some Jvm.ClassFile.FieldType.int)) ∈ lw_all := lw_g (lw_at lw_m5 151 rfl) rfl
theorem q1171 : (Jvm.Cond.methodLink "HedgehogLotsModel" (183 : Nat) ({ cls := "HedgehogLotsModel", name := "isSuit", desc := "(I)Z" } : Jvm.MethodName)) ∈ lw_all := lw_g (lw_at lw_m5 152 rfl) rfl
theorem q1172 : (Jvm.Cond.privateMethod ({ cls := "HedgehogLotsModel", name := "isSuit", desc := "(I)Z" } : Jvm.MethodName)) ∈ lw_tbl := lw_at lw_m5 153 rfl
theorem q1173 : (Jvm.Cond.instanceMethod ({ cls := "HedgehogLotsModel", name := "isSuit", desc := "(I)Z" } : Jvm.MethodName)) ∈ lw_all := lw_g (lw_at lw_m5 154 rfl) rfl
theorem q1174 : (Jvm.Cond.code ({ cls := "HedgehogLotsModel", name := "isSuit", desc := "(I)Z" } : Jvm.MethodName) prog_11_method_20_code (2 : Nat) (Option.some Jvm.ClassFile.FieldType.boolean)) ∈ lw_all := lw_g (lw_at lw_m5 155 rfl) rfl
theorem q1176 : (Jvm.Cond.instanceMethod ({ cls := "HedgehogLotsModel", name := "shift", desc := "(II)I" } : Jvm.MethodName)) ∈ lw_all := lw_g (lw_at lw_m5 157 rfl) rfl
theorem q1177 : (Jvm.Cond.selects "HedgehogLotsModel" ({ cls := "HedgehogLotsModel", name := "shift", desc := "(II)I" } : Jvm.MethodName) ({ cls := "HedgehogLotsModel", name := "shift", desc := "(II)I" } : Jvm.MethodName)) ∈ lw_all := lw_g (lw_at lw_m5 158 rfl) rfl
theorem q1178 : (Jvm.Cond.code ({ cls := "HedgehogLotsModel", name := "shift", desc := "(II)I" } : Jvm.MethodName) prog_11_method_39_code (3 : Nat) (Option.some Jvm.ClassFile.FieldType.int)) ∈ lw_all := lw_g (lw_at lw_m5 159 rfl) rfl
theorem q1179 : (Jvm.Cond.methodLink "HedgehogLotsModel" (186 : Nat) ({ cls := "HedgehogLotsModel", name := "isCell", desc := "(I)Z" } : Jvm.MethodName)) ∈ lw_all := lw_g (lw_at lw_m5 160 rfl) rfl
theorem q1180 : (Jvm.Cond.static ({ cls := "HedgehogLotsModel", name := "isCell", desc := "(I)Z" } : Jvm.MethodName)) ∈ lw_all := lw_g (lw_at lw_m5 161 rfl) rfl
theorem q1181 : (Jvm.Cond.code ({ cls := "HedgehogLotsModel", name := "isCell", desc := "(I)Z" } : Jvm.MethodName) prog_11_method_21_code (1 : Nat) (Option.some Jvm.ClassFile.FieldType.boolean)) ∈ lw_all := lw_g (lw_at lw_m5 162 rfl) rfl
theorem q1182 : (Jvm.Cond.methodLink "HedgehogLotsModel" (189 : Nat) ({ cls := "HedgehogLotsModel", name := "isFreeOn", desc := "(II)Z" } : Jvm.MethodName)) ∈ lw_all := lw_g (lw_at lw_m5 163 rfl) rfl
theorem q1183 : (Jvm.Cond.privateMethod ({ cls := "HedgehogLotsModel", name := "isFreeOn", desc := "(II)Z" } : Jvm.MethodName)) ∈ lw_tbl := lw_at lw_m5 164 rfl
theorem q1184 : (Jvm.Cond.instanceMethod ({ cls := "HedgehogLotsModel", name := "isFreeOn", desc := "(II)Z" } : Jvm.MethodName)) ∈ lw_all := lw_g (lw_at lw_m5 165 rfl) rfl
theorem q1185 : (Jvm.Cond.code ({ cls := "HedgehogLotsModel", name := "isFreeOn", desc := "(II)Z" } : Jvm.MethodName) prog_11_method_26_code (3 : Nat) (Option.some Jvm.ClassFile.FieldType.boolean)) ∈ lw_all := lw_g (lw_at lw_m5 166 rfl) rfl
theorem q1186 : (Jvm.Cond.methodLink "HedgehogLotsModel" (193 : Nat) ({ cls := "HedgehogLotsModel", name := "puts", desc := "(ZII)I" } : Jvm.MethodName)) ∈ lw_all := lw_g (lw_at lw_m5 167 rfl) rfl
theorem q1187 : (Jvm.Cond.privateMethod ({ cls := "HedgehogLotsModel", name := "puts", desc := "(ZII)I" } : Jvm.MethodName)) ∈ lw_tbl := lw_at lw_m5 168 rfl
theorem q1188 : (Jvm.Cond.instanceMethod ({ cls := "HedgehogLotsModel", name := "puts", desc := "(ZII)I" } : Jvm.MethodName)) ∈ lw_all := lw_g (lw_at lw_m5 169 rfl) rfl
theorem q1189 : (Jvm.Cond.code ({ cls := "HedgehogLotsModel", name := "puts", desc := "(ZII)I" } : Jvm.MethodName) prog_11_method_38_code (5 : Nat) (Option.some Jvm.ClassFile.FieldType.int)) ∈ lw_all := lw_g (lw_at lw_m5 170 rfl) rfl
theorem q1191 : (Jvm.Cond.instanceMethod ({ cls := "HedgehogLotsModel", name := "rag", desc := "(II)I" } : Jvm.MethodName)) ∈ lw_all := lw_g (lw_at lw_m5 172 rfl) rfl
theorem q1192 : (Jvm.Cond.selects "HedgehogLotsModel" ({ cls := "HedgehogLotsModel", name := "rag", desc := "(II)I" } : Jvm.MethodName) ({ cls := "HedgehogLotsModel", name := "rag", desc := "(II)I" } : Jvm.MethodName)) ∈ lw_all := lw_g (lw_at lw_m5 173 rfl) rfl
theorem q1193 : (Jvm.Cond.code ({ cls := "HedgehogLotsModel", name := "rag", desc := "(II)I" } : Jvm.MethodName) prog_11_method_40_code (3 : Nat) (Option.some Jvm.ClassFile.FieldType.int)) ∈ lw_all := lw_g (lw_at lw_m5 174 rfl) rfl
theorem q1194 : (Jvm.Cond.methodLink "HedgehogLotsModel" (197 : Nat) ({ cls := "HedgehogLotsModel", name := "isRag", desc := "(I)Z" } : Jvm.MethodName)) ∈ lw_all := lw_g (lw_at lw_m5 175 rfl) rfl
theorem q1195 : (Jvm.Cond.static ({ cls := "HedgehogLotsModel", name := "isRag", desc := "(I)Z" } : Jvm.MethodName)) ∈ lw_all := lw_g (lw_at lw_m5 176 rfl) rfl
theorem q1196 : (Jvm.Cond.code ({ cls := "HedgehogLotsModel", name := "isRag", desc := "(I)Z" } : Jvm.MethodName) prog_11_method_23_code (1 : Nat) (Option.some Jvm.ClassFile.FieldType.boolean)) ∈ lw_all := lw_g (lw_at lw_m5 177 rfl) rfl
theorem q1198 : (Jvm.Cond.instanceMethod ({ cls := "HedgehogLotsModel", name := "alter", desc := "(III)I" } : Jvm.MethodName)) ∈ lw_all := lw_g (lw_at lw_m5 179 rfl) rfl
theorem q1199 : (Jvm.Cond.selects "HedgehogLotsModel" ({ cls := "HedgehogLotsModel", name := "alter", desc := "(III)I" } : Jvm.MethodName) ({ cls := "HedgehogLotsModel", name := "alter", desc := "(III)I" } : Jvm.MethodName)) ∈ lw_all := lw_g (lw_at lw_m5 180 rfl) rfl
theorem q1200 : (Jvm.Cond.code ({ cls := "HedgehogLotsModel", name := "alter", desc := "(III)I" } : Jvm.MethodName) prog_11_method_41_code (5 : Nat) (Option.some Jvm.ClassFile.FieldType.int)) ∈ lw_all := lw_g (lw_at lw_m5 181 rfl) rfl
theorem q1201 : (Jvm.Cond.constantLong "HedgehogLotsModel" (200 : Nat) (9 : Int64)) ∈ lw_all := lw_g (lw_at lw_m5 182 rfl) rfl
theorem q1203 : (Jvm.Cond.instanceMethod ({ cls := "HedgehogLotsModel", name := "drive", desc := "(II)I" } : Jvm.MethodName)) ∈ lw_all := lw_g (lw_at lw_m5 184 rfl) rfl
theorem q1204 : (Jvm.Cond.selects "HedgehogLotsModel" ({ cls := "HedgehogLotsModel", name := "drive", desc := "(II)I" } : Jvm.MethodName) ({ cls := "HedgehogLotsModel", name := "drive", desc := "(II)I" } : Jvm.MethodName)) ∈ lw_all := lw_g (lw_at lw_m5 185 rfl) rfl
theorem q1205 : (Jvm.Cond.code ({ cls := "HedgehogLotsModel", name := "drive", desc := "(II)I" } : Jvm.MethodName) prog_11_method_44_code (3 : Nat) (Option.some Jvm.ClassFile.FieldType.int)) ∈ lw_all := lw_g (lw_at lw_m5 186 rfl) rfl
theorem q1206 : (Jvm.Cond.methodLink "HedgehogLotsModel" (206 : Nat) ({ cls := "HedgehogLotsModel", name := "drives", desc := "(II)I" } : Jvm.MethodName)) ∈ lw_all := lw_g (lw_at lw_m5 187 rfl) rfl
theorem q1207 : (Jvm.Cond.privateMethod ({ cls := "HedgehogLotsModel", name := "drives", desc := "(II)I" } : Jvm.MethodName)) ∈ lw_tbl := lw_at lw_m5 188 rfl
theorem q1208 : (Jvm.Cond.instanceMethod ({ cls := "HedgehogLotsModel", name := "drives", desc := "(II)I" } : Jvm.MethodName)) ∈ lw_all := lw_g (lw_at lw_m5 189 rfl) rfl
theorem q1209 : (Jvm.Cond.code ({ cls := "HedgehogLotsModel", name := "drives", desc := "(II)I" } : Jvm.MethodName) prog_11_method_43_code (3 : Nat) (Option.some Jvm.ClassFile.FieldType.int)) ∈ lw_all := lw_g (lw_at lw_m5 190 rfl) rfl
theorem q1210 : (Jvm.Cond.methodLink "HedgehogLotsModel" (202 : Nat) ({ cls := "HedgehogLotsModel", name := "drivesOn", desc := "(III)V" } : Jvm.MethodName)) ∈ lw_all := lw_g (lw_at lw_m5 191 rfl) rfl
theorem q1211 : (Jvm.Cond.privateMethod ({ cls := "HedgehogLotsModel", name := "drivesOn", desc := "(III)V" } : Jvm.MethodName)) ∈ lw_tbl := lw_at lw_m5 192 rfl
theorem q1212 : (Jvm.Cond.instanceMethod ({ cls := "HedgehogLotsModel", name := "drivesOn", desc := "(III)V" } : Jvm.MethodName)) ∈ lw_all := lw_g (lw_at lw_m5 193 rfl) rfl
theorem q1213 : (Jvm.Cond.code ({ cls := "HedgehogLotsModel", name := "drivesOn", desc := "(III)V" } : Jvm.MethodName) prog_11_method_42_code (5 : Nat) (Option.none : Option Jvm.ClassFile.FieldType)) ∈ lw_all := lw_g (lw_at lw_m5 194 rfl) rfl
theorem q1215 : (Jvm.Cond.instanceMethod ({ cls := "HedgehogLotsModel", name := "lay", desc := "(I)I" } : Jvm.MethodName)) ∈ lw_all := lw_g (lw_at lw_m5 196 rfl) rfl
theorem q1216 : (Jvm.Cond.selects "HedgehogLotsModel" ({ cls := "HedgehogLotsModel", name := "lay", desc := "(I)I" } : Jvm.MethodName) ({ cls := "HedgehogLotsModel", name := "lay", desc := "(I)I" } : Jvm.MethodName)) ∈ lw_all := lw_g (lw_at lw_m5 197 rfl) rfl
theorem q1217 : (Jvm.Cond.code ({ cls := "HedgehogLotsModel", name := "lay", desc := "(I)I" } : Jvm.MethodName) prog_11_method_46_code (2 : Nat) (Option.some Jvm.ClassFile.FieldType.int)) ∈ lw_all := lw_g (lw_at lw_m5 198 rfl) rfl
theorem q1218 : (Jvm.Cond.methodLink "HedgehogLotsModel" (209 : Nat) ({ cls := "HedgehogLotsModel", name := "laysOn", desc := "(II)V" } : Jvm.MethodName)) ∈ lw_all := lw_g (lw_at lw_m5 199 rfl) rfl
theorem q1219 : (Jvm.Cond.privateMethod ({ cls := "HedgehogLotsModel", name := "laysOn", desc := "(II)V" } : Jvm.MethodName)) ∈ lw_tbl := lw_at lw_m5 200 rfl
theorem q1220 : (Jvm.Cond.instanceMethod ({ cls := "HedgehogLotsModel", name := "laysOn", desc := "(II)V" } : Jvm.MethodName)) ∈ lw_all := lw_g (lw_at lw_m5 201 rfl) rfl
theorem q1221 : (Jvm.Cond.code ({ cls := "HedgehogLotsModel", name := "laysOn", desc := "(II)V" } : Jvm.MethodName) prog_11_method_45_code (3 : Nat) (Option.none : Option Jvm.ClassFile.FieldType)) ∈ lw_all := lw_g (lw_at lw_m5 202 rfl) rfl
theorem q1223 : (Jvm.Cond.instanceMethod ({ cls := "HedgehogLotsModel", name := "clear", desc := "(I)I" } : Jvm.MethodName)) ∈ lw_all := lw_g (lw_at lw_m5 204 rfl) rfl
theorem q1224 : (Jvm.Cond.selects "HedgehogLotsModel" ({ cls := "HedgehogLotsModel", name := "clear", desc := "(I)I" } : Jvm.MethodName) ({ cls := "HedgehogLotsModel", name := "clear", desc := "(I)I" } : Jvm.MethodName)) ∈ lw_all := lw_g (lw_at lw_m5 205 rfl) rfl
theorem q1225 : (Jvm.Cond.code ({ cls := "HedgehogLotsModel", name := "clear", desc := "(I)I" } : Jvm.MethodName) prog_11_method_47_code (2 : Nat) (Option.some Jvm.ClassFile.FieldType.int)) ∈ lw_all := lw_g (lw_at lw_m5 206 rfl) rfl
theorem q1227 : (Jvm.Cond.instanceMethod ({ cls := "HedgehogLotsModel", name := "sue", desc := "(II)I" } : Jvm.MethodName)) ∈ lw_all := lw_g (lw_at lw_m5 208 rfl) rfl
theorem q1228 : (Jvm.Cond.selects "HedgehogLotsModel" ({ cls := "HedgehogLotsModel", name := "sue", desc := "(II)I" } : Jvm.MethodName) ({ cls := "HedgehogLotsModel", name := "sue", desc := "(II)I" } : Jvm.MethodName)) ∈ lw_all := lw_g (lw_at lw_m5 209 rfl) rfl
theorem q1229 : (Jvm.Cond.code ({ cls := "HedgehogLotsModel", name := "sue", desc := "(II)I" } : Jvm.MethodName) prog_11_method_48_code (4 : Nat) (Option.some Jvm.ClassFile.FieldType.int)) ∈ lw_all := lw_g (lw_at lw_m5 210 rfl) rfl
theorem q1230 : (Jvm.Cond.methodLink "HedgehogLotsModel" (213 : Nat) ({ cls := "HedgehogLotsModel", name := "isColumn", desc := "(I)Z" } : Jvm.MethodName)) ∈ lw_all := lw_g (lw_at lw_m5 211 rfl) rfl
theorem q1231 : (Jvm.Cond.static ({ cls := "HedgehogLotsModel", name := "isColumn", desc := "(I)Z" } : Jvm.MethodName)) ∈ lw_all := lw_g (lw_at lw_m5 212 rfl) rfl
theorem q1232 : (Jvm.Cond.code ({ cls := "HedgehogLotsModel", name := "isColumn", desc := "(I)Z" } : Jvm.MethodName) prog_11_method_22_code (1 : Nat) (Option.some Jvm.ClassFile.FieldType.boolean)) ∈ lw_all := lw_g (lw_at lw_m5 213 rfl) rfl
theorem q1233 : (Jvm.Cond.constantLong "HedgehogLotsModel" (135 : Nat) (7 : Int64)) ∈ lw_all := lw_g (lw_at lw_m5 214 rfl) rfl
theorem q1235 : (Jvm.Cond.instanceMethod ({ cls := "HedgehogLotsModel", name := "drop", desc := "(I)I" } : Jvm.MethodName)) ∈ lw_all := lw_g (lw_at lw_m5 216 rfl) rfl
theorem q1236 : (Jvm.Cond.selects "HedgehogLotsModel" ({ cls := "HedgehogLotsModel", name := "drop", desc := "(I)I" } : Jvm.MethodName) ({ cls := "HedgehogLotsModel", name := "drop", desc := "(I)I" } : Jvm.MethodName)) ∈ lw_all := lw_g (lw_at lw_m5 217 rfl) rfl
theorem q1237 : (Jvm.Cond.code ({ cls := "HedgehogLotsModel", name := "drop", desc := "(I)I" } : Jvm.MethodName) prog_11_method_49_code (2 : Nat) (Option.some Jvm.ClassFile.FieldType.int)) ∈ lw_all := lw_g (lw_at lw_m5 218 rfl) rfl
theorem q1239 : (Jvm.Cond.instanceMethod ({ cls := "HedgehogLotsModel", name := "run", desc := "(III)I" } : Jvm.MethodName)) ∈ lw_all := lw_g (lw_at lw_m5 220 rfl) rfl
theorem q1240 : (Jvm.Cond.selects "HedgehogLotsModel" ({ cls := "HedgehogLotsModel", name := "run", desc := "(III)I" } : Jvm.MethodName) ({ cls := "HedgehogLotsModel", name := "run", desc := "(III)I" } : Jvm.MethodName)) ∈ lw_all := lw_g (lw_at lw_m5 221 rfl) rfl
theorem q1241 : (Jvm.Cond.code ({ cls := "HedgehogLotsModel", name := "run", desc := "(III)I" } : Jvm.MethodName) prog_11_method_50_code (5 : Nat) (Option.some Jvm.ClassFile.FieldType.int)) ∈ lw_all := lw_g (lw_at lw_m5 222 rfl) rfl
theorem q1242 : (Jvm.Cond.constantLong "HedgehogLotsModel" (216 : Nat) (4 : Int64)) ∈ lw_all := lw_g (lw_at lw_m5 223 rfl) rfl
theorem q1244 : (Jvm.Cond.instanceMethod ({ cls := "HedgehogLotsModel", name := "way", desc := "(III)I" } : Jvm.MethodName)) ∈ lw_all := lw_g (lw_at lw_m5 225 rfl) rfl
theorem q1245 : (Jvm.Cond.selects "HedgehogLotsModel" ({ cls := "HedgehogLotsModel", name := "way", desc := "(III)I" } : Jvm.MethodName) ({ cls := "HedgehogLotsModel", name := "way", desc := "(III)I" } : Jvm.MethodName)) ∈ lw_all := lw_g (lw_at lw_m5 226 rfl) rfl
theorem q1246 : (Jvm.Cond.code ({ cls := "HedgehogLotsModel", name := "way", desc := "(III)I" } : Jvm.MethodName) prog_11_method_51_code (4 : Nat) (Option.some Jvm.ClassFile.FieldType.int)) ∈ lw_all := lw_g (lw_at lw_m5 227 rfl) rfl
theorem q1248 : (Jvm.Cond.instanceMethod ({ cls := "HedgehogLotsModel", name := "wins", desc := "(I)I" } : Jvm.MethodName)) ∈ lw_all := lw_g (lw_at lw_m5 229 rfl) rfl
theorem q1249 : (Jvm.Cond.selects "HedgehogLotsModel" ({ cls := "HedgehogLotsModel", name := "wins", desc := "(I)I" } : Jvm.MethodName) ({ cls := "HedgehogLotsModel", name := "wins", desc := "(I)I" } : Jvm.MethodName)) ∈ lw_all := lw_g (lw_at lw_m5 230 rfl) rfl
theorem q1250 : (Jvm.Cond.code ({ cls := "HedgehogLotsModel", name := "wins", desc := "(I)I" } : Jvm.MethodName) prog_11_method_52_code (2 : Nat) (Option.some Jvm.ClassFile.FieldType.int)) ∈ lw_all := lw_g (lw_at lw_m5 231 rfl) rfl
theorem q1252 : (Jvm.Cond.instanceMethod ({ cls := "HedgehogLotsModel", name := "share", desc := "(II)I" } : Jvm.MethodName)) ∈ lw_all := lw_g (lw_at lw_m5 233 rfl) rfl
theorem q1253 : (Jvm.Cond.selects "HedgehogLotsModel" ({ cls := "HedgehogLotsModel", name := "share", desc := "(II)I" } : Jvm.MethodName) ({ cls := "HedgehogLotsModel", name := "share", desc := "(II)I" } : Jvm.MethodName)) ∈ lw_all := lw_g (lw_at lw_m5 234 rfl) rfl
theorem q1254 : (Jvm.Cond.code ({ cls := "HedgehogLotsModel", name := "share", desc := "(II)I" } : Jvm.MethodName) prog_11_method_53_code (5 : Nat) (Option.some Jvm.ClassFile.FieldType.int)) ∈ lw_all := lw_g (lw_at lw_m5 235 rfl) rfl
theorem q1256 : (Jvm.Cond.instanceMethod ({ cls := "HedgehogLotsModel", name := "first", desc := "(II)I" } : Jvm.MethodName)) ∈ lw_all := lw_g (lw_at lw_m5 237 rfl) rfl
theorem q1257 : (Jvm.Cond.selects "HedgehogLotsModel" ({ cls := "HedgehogLotsModel", name := "first", desc := "(II)I" } : Jvm.MethodName) ({ cls := "HedgehogLotsModel", name := "first", desc := "(II)I" } : Jvm.MethodName)) ∈ lw_all := lw_g (lw_at lw_m5 238 rfl) rfl
theorem q1258 : (Jvm.Cond.code ({ cls := "HedgehogLotsModel", name := "first", desc := "(II)I" } : Jvm.MethodName) prog_11_method_54_code (4 : Nat) (Option.some Jvm.ClassFile.FieldType.int)) ∈ lw_all := lw_g (lw_at lw_m5 239 rfl) rfl
theorem q1260 : (Jvm.Cond.instanceMethod ({ cls := "HedgehogLotsModel", name := "kindly", desc := "(III)I" } : Jvm.MethodName)) ∈ lw_all := lw_g (lw_at lw_m6 1 rfl) rfl
theorem q1261 : (Jvm.Cond.selects "HedgehogLotsModel" ({ cls := "HedgehogLotsModel", name := "kindly", desc := "(III)I" } : Jvm.MethodName) ({ cls := "HedgehogLotsModel", name := "kindly", desc := "(III)I" } : Jvm.MethodName)) ∈ lw_all := lw_g (lw_at lw_m6 2 rfl) rfl
theorem q1262 : (Jvm.Cond.code ({ cls := "HedgehogLotsModel", name := "kindly", desc := "(III)I" } : Jvm.MethodName) prog_11_method_56_code (6 : Nat) (Option.some Jvm.ClassFile.FieldType.int)) ∈ lw_all := lw_g (lw_at lw_m6 3 rfl) rfl
theorem q1263 : (Jvm.Cond.methodLink "HedgehogLotsModel" (218 : Nat) ({ cls := "HedgehogLotsModel", name := "copies", desc := "(II)V" } : Jvm.MethodName)) ∈ lw_all := lw_g (lw_at lw_m6 4 rfl) rfl
theorem q1264 : (Jvm.Cond.privateMethod ({ cls := "HedgehogLotsModel", name := "copies", desc := "(II)V" } : Jvm.MethodName)) ∈ lw_tbl := lw_at lw_m6 5 rfl
theorem q1265 : (Jvm.Cond.instanceMethod ({ cls := "HedgehogLotsModel", name := "copies", desc := "(II)V" } : Jvm.MethodName)) ∈ lw_all := lw_g (lw_at lw_m6 6 rfl) rfl
theorem q1266 : (Jvm.Cond.code ({ cls := "HedgehogLotsModel", name := "copies", desc := "(II)V" } : Jvm.MethodName) prog_11_method_55_code (4 : Nat) (Option.none : Option Jvm.ClassFile.FieldType)) ∈ lw_all := lw_g (lw_at lw_m6 7 rfl) rfl
theorem q1268 : (Jvm.Cond.instanceMethod ({ cls := "HedgehogLotsModel", name := "place", desc := "(II)I" } : Jvm.MethodName)) ∈ lw_all := lw_g (lw_at lw_m6 9 rfl) rfl
theorem q1269 : (Jvm.Cond.selects "HedgehogLotsModel" ({ cls := "HedgehogLotsModel", name := "place", desc := "(II)I" } : Jvm.MethodName) ({ cls := "HedgehogLotsModel", name := "place", desc := "(II)I" } : Jvm.MethodName)) ∈ lw_all := lw_g (lw_at lw_m6 10 rfl) rfl
theorem q1270 : (Jvm.Cond.code ({ cls := "HedgehogLotsModel", name := "place", desc := "(II)I" } : Jvm.MethodName) prog_11_method_57_code (7 : Nat) (Option.some Jvm.ClassFile.FieldType.int)) ∈ lw_all := lw_g (lw_at lw_m6 11 rfl) rfl
theorem q1271 : (Jvm.Cond.methodLink "HedgehogLotsModel" (221 : Nat) ({ cls := "HedgehogLotsModel", name := "bitsOf", desc := "(I)I" } : Jvm.MethodName)) ∈ lw_all := lw_g (lw_at lw_m6 12 rfl) rfl
theorem q1272 : (Jvm.Cond.static ({ cls := "HedgehogLotsModel", name := "bitsOf", desc := "(I)I" } : Jvm.MethodName)) ∈ lw_all := lw_g (lw_at lw_m6 13 rfl) rfl
theorem q1273 : (Jvm.Cond.code ({ cls := "HedgehogLotsModel", name := "bitsOf", desc := "(I)I" } : Jvm.MethodName) prog_11_method_32_code (3 : Nat) (Option.some Jvm.ClassFile.FieldType.int)) ∈ lw_all := lw_g (lw_at lw_m6 14 rfl) rfl
theorem q1275 : (Jvm.Cond.instanceMethod ({ cls := "HedgehogLotsModel", name := "move", desc := "(II)I" } : Jvm.MethodName)) ∈ lw_all := lw_g (lw_at lw_m6 16 rfl) rfl
theorem q1276 : (Jvm.Cond.selects "HedgehogLotsModel" ({ cls := "HedgehogLotsModel", name := "move", desc := "(II)I" } : Jvm.MethodName) ({ cls := "HedgehogLotsModel", name := "move", desc := "(II)I" } : Jvm.MethodName)) ∈ lw_all := lw_g (lw_at lw_m6 17 rfl) rfl
theorem q1277 : (Jvm.Cond.code ({ cls := "HedgehogLotsModel", name := "move", desc := "(II)I" } : Jvm.MethodName) prog_11_method_58_code (7 : Nat) (Option.some Jvm.ClassFile.FieldType.int)) ∈ lw_all := lw_g (lw_at lw_m6 18 rfl) rfl
theorem q1279 : (Jvm.Cond.instanceMethod ({ cls := "HedgehogLotsModel", name := "bribe", desc := "(II)I" } : Jvm.MethodName)) ∈ lw_all := lw_g (lw_at lw_m6 20 rfl) rfl
theorem q1280 : (Jvm.Cond.selects "HedgehogLotsModel" ({ cls := "HedgehogLotsModel", name := "bribe", desc := "(II)I" } : Jvm.MethodName) ({ cls := "HedgehogLotsModel", name := "bribe", desc := "(II)I" } : Jvm.MethodName)) ∈ lw_all := lw_g (lw_at lw_m6 21 rfl) rfl
theorem q1281 : (Jvm.Cond.code ({ cls := "HedgehogLotsModel", name := "bribe", desc := "(II)I" } : Jvm.MethodName) prog_11_method_59_code (7 : Nat) (Option.some Jvm.ClassFile.FieldType.int)) ∈ lw_all := lw_g (lw_at lw_m6 22 rfl) rfl
theorem q1283 : (Jvm.Cond.instanceMethod ({ cls := "HedgehogLotsModel", name := "need", desc := "(II)I" } : Jvm.MethodName)) ∈ lw_all := lw_g (lw_at lw_m6 24 rfl) rfl
theorem q1284 : (Jvm.Cond.selects "HedgehogLotsModel" ({ cls := "HedgehogLotsModel", name := "need", desc := "(II)I" } : Jvm.MethodName) ({ cls := "HedgehogLotsModel", name := "need", desc := "(II)I" } : Jvm.MethodName)) ∈ lw_all := lw_g (lw_at lw_m6 25 rfl) rfl
theorem q1285 : (Jvm.Cond.code ({ cls := "HedgehogLotsModel", name := "need", desc := "(II)I" } : Jvm.MethodName) prog_11_method_60_code (4 : Nat) (Option.some Jvm.ClassFile.FieldType.int)) ∈ lw_all := lw_g (lw_at lw_m6 26 rfl) rfl
theorem q1287 : (Jvm.Cond.instanceMethod ({ cls := "HedgehogLotsModel", name := "swap", desc := "(II)I" } : Jvm.MethodName)) ∈ lw_all := lw_g (lw_at lw_m6 28 rfl) rfl
theorem q1288 : (Jvm.Cond.selects "HedgehogLotsModel" ({ cls := "HedgehogLotsModel", name := "swap", desc := "(II)I" } : Jvm.MethodName) ({ cls := "HedgehogLotsModel", name := "swap", desc := "(II)I" } : Jvm.MethodName)) ∈ lw_all := lw_g (lw_at lw_m6 29 rfl) rfl
theorem q1289 : (Jvm.Cond.code ({ cls := "HedgehogLotsModel", name := "swap", desc := "(II)I" } : Jvm.MethodName) prog_11_method_61_code (9 : Nat) (Option.some Jvm.ClassFile.FieldType.int)) ∈ lw_all := lw_g (lw_at lw_m6 30 rfl) rfl
theorem q1291 : (Jvm.Cond.instanceMethod ({ cls := "HedgehogLotsModel", name := "pull", desc := "(II)I" } : Jvm.MethodName)) ∈ lw_all := lw_g (lw_at lw_m6 32 rfl) rfl
theorem q1292 : (Jvm.Cond.selects "HedgehogLotsModel" ({ cls := "HedgehogLotsModel", name := "pull", desc := "(II)I" } : Jvm.MethodName) ({ cls := "HedgehogLotsModel", name := "pull", desc := "(II)I" } : Jvm.MethodName)) ∈ lw_all := lw_g (lw_at lw_m6 33 rfl) rfl
theorem q1293 : (Jvm.Cond.code ({ cls := "HedgehogLotsModel", name := "pull", desc := "(II)I" } : Jvm.MethodName) prog_11_method_62_code (7 : Nat) (Option.some Jvm.ClassFile.FieldType.int)) ∈ lw_all := lw_g (lw_at lw_m6 34 rfl) rfl
theorem q1295 : (Jvm.Cond.instanceMethod ({ cls := "HedgehogLotsModel", name := "luck", desc := "(IIIII)J" } : Jvm.MethodName)) ∈ lw_all := lw_g (lw_at lw_m6 36 rfl) rfl
theorem q1296 : (Jvm.Cond.selects "HedgehogLotsModel" ({ cls := "HedgehogLotsModel", name := "luck", desc := "(IIIII)J" } : Jvm.MethodName) ({ cls := "HedgehogLotsModel", name := "luck", desc := "(IIIII)J" } : Jvm.MethodName)) ∈ lw_all := lw_g (lw_at lw_m6 37 rfl) rfl
theorem q1297 : (Jvm.Cond.code ({ cls := "HedgehogLotsModel", name := "luck", desc := "(IIIII)J" } : Jvm.MethodName) prog_11_method_65_code (6 : Nat) (Option.some Jvm.ClassFile.FieldType.long)) ∈ lw_all := lw_g (lw_at lw_m6 38 rfl) rfl
theorem q1298 : (Jvm.Cond.constantLong "HedgehogLotsModel" (230 : Nat) (10 : Int64)) ∈ lw_all := lw_g (lw_at lw_m6 39 rfl) rfl
theorem q1299 : (Jvm.Cond.methodLink "HedgehogLotsModel" (232 : Nat) ({ cls := "HedgehogLotsModel", name := "byTurns", desc := "(IIIII)J" } : Jvm.MethodName)) ∈ lw_all := lw_g (lw_at lw_m6 40 rfl) rfl
theorem q1300 : (Jvm.Cond.privateMethod ({ cls := "HedgehogLotsModel", name := "byTurns", desc := "(IIIII)J" } : Jvm.MethodName)) ∈ lw_tbl := lw_at lw_m6 41 rfl
theorem q1301 : (Jvm.Cond.instanceMethod ({ cls := "HedgehogLotsModel", name := "byTurns", desc := "(IIIII)J" } : Jvm.MethodName)) ∈ lw_all := lw_g (lw_at lw_m6 42 rfl) rfl
theorem q1302 : (Jvm.Cond.code ({ cls := "HedgehogLotsModel", name := "byTurns", desc := "(IIIII)J" } : Jvm.MethodName) prog_11_method_64_code (14 : Nat) (Option.some Jvm.ClassFile.FieldType.long)) ∈ lw_all := lw_g (lw_at lw_m6 43 rfl) rfl
theorem q1303 : (Jvm.Cond.constantLong "HedgehogLotsModel" (224 : Nat) (10000000000 : Int64)) ∈ lw_all := lw_g (lw_at lw_m6 44 rfl) rfl
theorem q1304 : (Jvm.Cond.methodLink "HedgehogLotsModel" (226 : Nat) ({ cls := "HedgehogLotsModel", name := "lowest", desc := "(JJI)J" } : Jvm.MethodName)) ∈ lw_all := lw_g (lw_at lw_m6 45 rfl) rfl
theorem q1305 : (Jvm.Cond.static ({ cls := "HedgehogLotsModel", name := "lowest", desc := "(JJI)J" } : Jvm.MethodName)) ∈ lw_all := lw_g (lw_at lw_m6 46 rfl) rfl
theorem q1306 : (Jvm.Cond.code ({ cls := "HedgehogLotsModel", name := "lowest", desc := "(JJI)J" } : Jvm.MethodName) prog_11_method_63_code (11 : Nat) (Option.some Jvm.ClassFile.FieldType.long)) ∈ lw_all := lw_g (lw_at lw_m6 47 rfl) rfl
theorem q1307 : (Jvm.Cond.constantLong "HedgehogLotsModel" (236 : Nat) (-1 : Int64)) ∈ lw_all := lw_g (lw_at lw_m6 48 rfl) rfl
theorem q1309 : (Jvm.Cond.instanceMethod ({ cls := "HedgehogLotsModel", name := "mean", desc := "(IIII)J" } : Jvm.MethodName)) ∈ lw_all := lw_g (lw_at lw_m6 50 rfl) rfl
theorem q1310 : (Jvm.Cond.selects "HedgehogLotsModel" ({ cls := "HedgehogLotsModel", name := "mean", desc := "(IIII)J" } : Jvm.MethodName) ({ cls := "HedgehogLotsModel", name := "mean", desc := "(IIII)J" } : Jvm.MethodName)) ∈ lw_all := lw_g (lw_at lw_m6 51 rfl) rfl
theorem q1311 : (Jvm.Cond.code ({ cls := "HedgehogLotsModel", name := "mean", desc := "(IIII)J" } : Jvm.MethodName) prog_11_method_66_code (5 : Nat) (Option.some Jvm.ClassFile.FieldType.long)) ∈ lw_all := lw_g (lw_at lw_m6 52 rfl) rfl
theorem q1313 : (Jvm.Cond.instanceMethod ({ cls := "HedgehogLotsModel", name := "see", desc := "(III)I" } : Jvm.MethodName)) ∈ lw_all := lw_g (lw_at lw_m6 54 rfl) rfl
theorem q1314 : (Jvm.Cond.selects "HedgehogLotsModel" ({ cls := "HedgehogLotsModel", name := "see", desc := "(III)I" } : Jvm.MethodName) ({ cls := "HedgehogLotsModel", name := "see", desc := "(III)I" } : Jvm.MethodName)) ∈ lw_all := lw_g (lw_at lw_m6 55 rfl) rfl
theorem q1315 : (Jvm.Cond.code ({ cls := "HedgehogLotsModel", name := "see", desc := "(III)I" } : Jvm.MethodName) prog_11_method_67_code (4 : Nat) (Option.some Jvm.ClassFile.FieldType.int)) ∈ lw_all := lw_g (lw_at lw_m6 56 rfl) rfl
theorem q1317 : (Jvm.Cond.instanceMethod ({ cls := "HedgehogLotsModel", name := "forget", desc := "(I)I" } : Jvm.MethodName)) ∈ lw_all := lw_g (lw_at lw_m6 58 rfl) rfl
theorem q1318 : (Jvm.Cond.selects "HedgehogLotsModel" ({ cls := "HedgehogLotsModel", name := "forget", desc := "(I)I" } : Jvm.MethodName) ({ cls := "HedgehogLotsModel", name := "forget", desc := "(I)I" } : Jvm.MethodName)) ∈ lw_all := lw_g (lw_at lw_m6 59 rfl) rfl
theorem q1319 : (Jvm.Cond.code ({ cls := "HedgehogLotsModel", name := "forget", desc := "(I)I" } : Jvm.MethodName) prog_11_method_68_code (3 : Nat) (Option.some Jvm.ClassFile.FieldType.int)) ∈ lw_all := lw_g (lw_at lw_m6 60 rfl) rfl
theorem q1321 : (Jvm.Cond.instanceMethod ({ cls := "HedgehogLotsModel", name := "kinds", desc := "(I)I" } : Jvm.MethodName)) ∈ lw_all := lw_g (lw_at lw_m6 62 rfl) rfl
theorem q1322 : (Jvm.Cond.selects "HedgehogLotsModel" ({ cls := "HedgehogLotsModel", name := "kinds", desc := "(I)I" } : Jvm.MethodName) ({ cls := "HedgehogLotsModel", name := "kinds", desc := "(I)I" } : Jvm.MethodName)) ∈ lw_all := lw_g (lw_at lw_m6 63 rfl) rfl
theorem q1323 : (Jvm.Cond.code ({ cls := "HedgehogLotsModel", name := "kinds", desc := "(I)I" } : Jvm.MethodName) prog_11_method_70_code (4 : Nat) (Option.some Jvm.ClassFile.FieldType.int)) ∈ lw_all := lw_g (lw_at lw_m6 64 rfl) rfl
theorem q1324 : (Jvm.Cond.methodLink "HedgehogLotsModel" (238 : Nat) ({ cls := "HedgehogLotsModel", name := "isAsSeen", desc := "(I)Z" } : Jvm.MethodName)) ∈ lw_all := lw_g (lw_at lw_m6 65 rfl) rfl
theorem q1325 : (Jvm.Cond.privateMethod ({ cls := "HedgehogLotsModel", name := "isAsSeen", desc := "(I)Z" } : Jvm.MethodName)) ∈ lw_tbl := lw_at lw_m6 66 rfl
theorem q1326 : (Jvm.Cond.instanceMethod ({ cls := "HedgehogLotsModel", name := "isAsSeen", desc := "(I)Z" } : Jvm.MethodName)) ∈ lw_all := lw_g (lw_at lw_m6 67 rfl) rfl
theorem q1327 : (Jvm.Cond.code ({ cls := "HedgehogLotsModel", name := "isAsSeen", desc := "(I)Z" } : Jvm.MethodName) prog_11_method_69_code (5 : Nat) (Option.some Jvm.ClassFile.FieldType.boolean)) ∈ lw_all := lw_g (lw_at lw_m6 68 rfl) rfl
theorem q1329 : (Jvm.Cond.instanceMethod ({ cls := "HedgehogLotsModel", name := "speeds", desc := "(I)I" } : Jvm.MethodName)) ∈ lw_all := lw_g (lw_at lw_m6 70 rfl) rfl
theorem q1330 : (Jvm.Cond.selects "HedgehogLotsModel" ({ cls := "HedgehogLotsModel", name := "speeds", desc := "(I)I" } : Jvm.MethodName) ({ cls := "HedgehogLotsModel", name := "speeds", desc := "(I)I" } : Jvm.MethodName)) ∈ lw_all := lw_g (lw_at lw_m6 71 rfl) rfl
theorem q1331 : (Jvm.Cond.code ({ cls := "HedgehogLotsModel", name := "speeds", desc := "(I)I" } : Jvm.MethodName) prog_11_method_72_code (2 : Nat) (Option.some Jvm.ClassFile.FieldType.int)) ∈ lw_all := lw_g (lw_at lw_m6 72 rfl) rfl
theorem q1332 : (Jvm.Cond.methodLink "HedgehogLotsModel" (241 : Nat) ({ cls := "HedgehogLotsModel", name := "speedsOf", desc := "(I)I" } : Jvm.MethodName)) ∈ lw_all := lw_g (lw_at lw_m6 73 rfl) rfl
theorem q1333 : (Jvm.Cond.privateMethod ({ cls := "HedgehogLotsModel", name := "speedsOf", desc := "(I)I" } : Jvm.MethodName)) ∈ lw_tbl := lw_at lw_m6 74 rfl
theorem q1334 : (Jvm.Cond.instanceMethod ({ cls := "HedgehogLotsModel", name := "speedsOf", desc := "(I)I" } : Jvm.MethodName)) ∈ lw_all := lw_g (lw_at lw_m6 75 rfl) rfl
theorem q1335 : (Jvm.Cond.code ({ cls := "HedgehogLotsModel", name := "speedsOf", desc := "(I)I" } : Jvm.MethodName) prog_11_method_71_code (5 : Nat) (Option.some Jvm.ClassFile.FieldType.int)) ∈ lw_all := lw_g (lw_at lw_m6 76 rfl) rfl
theorem q1337 : (Jvm.Cond.instanceMethod ({ cls := "HedgehogLotsModel", name := "ask", desc := "(II)I" } : Jvm.MethodName)) ∈ lw_all := lw_g (lw_at lw_m6 78 rfl) rfl
theorem q1338 : (Jvm.Cond.selects "HedgehogLotsModel" ({ cls := "HedgehogLotsModel", name := "ask", desc := "(II)I" } : Jvm.MethodName) ({ cls := "HedgehogLotsModel", name := "ask", desc := "(II)I" } : Jvm.MethodName)) ∈ lw_all := lw_g (lw_at lw_m6 79 rfl) rfl
theorem q1339 : (Jvm.Cond.code ({ cls := "HedgehogLotsModel", name := "ask", desc := "(II)I" } : Jvm.MethodName) prog_11_method_73_code (11 : Nat) (Option.some Jvm.ClassFile.FieldType.int)) ∈ lw_all := lw_g (lw_at lw_m6 80 rfl) rfl
theorem q1341 : (Jvm.Cond.instanceMethod ({ cls := "HedgehogLotsModel", name := "drift", desc := "(III)I" } : Jvm.MethodName)) ∈ lw_all := lw_g (lw_at lw_m6 82 rfl) rfl
theorem q1342 : (Jvm.Cond.selects "HedgehogLotsModel" ({ cls := "HedgehogLotsModel", name := "drift", desc := "(III)I" } : Jvm.MethodName) ({ cls := "HedgehogLotsModel", name := "drift", desc := "(III)I" } : Jvm.MethodName)) ∈ lw_all := lw_g (lw_at lw_m6 83 rfl) rfl
theorem q1343 : (Jvm.Cond.code ({ cls := "HedgehogLotsModel", name := "drift", desc := "(III)I" } : Jvm.MethodName) prog_11_method_74_code (10 : Nat) (Option.some Jvm.ClassFile.FieldType.int)) ∈ lw_all := lw_g (lw_at lw_m6 84 rfl) rfl
theorem q1344 : (Jvm.Cond.constantLong "HedgehogLotsModel" (244 : Nat) (60 : Int64)) ∈ lw_all := lw_g (lw_at lw_m6 85 rfl) rfl
theorem q1345 : (Jvm.Cond.constant "HedgehogLotsModel" (246 : Nat) (1103515245 : Int32)) ∈ lw_all := lw_g (lw_at lw_m6 86 rfl) rfl
theorem q1347 : (Jvm.Cond.instanceMethod ({ cls := "HedgehogLotsModel", name := "keep", desc := "(I)I" } : Jvm.MethodName)) ∈ lw_all := lw_g (lw_at lw_m6 88 rfl) rfl
theorem q1348 : (Jvm.Cond.selects "HedgehogLotsModel" ({ cls := "HedgehogLotsModel", name := "keep", desc := "(I)I" } : Jvm.MethodName) ({ cls := "HedgehogLotsModel", name := "keep", desc := "(I)I" } : Jvm.MethodName)) ∈ lw_all := lw_g (lw_at lw_m6 89 rfl) rfl
theorem q1349 : (Jvm.Cond.code ({ cls := "HedgehogLotsModel", name := "keep", desc := "(I)I" } : Jvm.MethodName) prog_11_method_75_code (3 : Nat) (Option.some Jvm.ClassFile.FieldType.int)) ∈ lw_all := lw_g (lw_at lw_m6 90 rfl) rfl
theorem q1351 : (Jvm.Cond.instanceMethod ({ cls := "HedgehogLotsModel", name := "back", desc := "(I)I" } : Jvm.MethodName)) ∈ lw_all := lw_g (lw_at lw_m6 92 rfl) rfl
theorem q1352 : (Jvm.Cond.selects "HedgehogLotsModel" ({ cls := "HedgehogLotsModel", name := "back", desc := "(I)I" } : Jvm.MethodName) ({ cls := "HedgehogLotsModel", name := "back", desc := "(I)I" } : Jvm.MethodName)) ∈ lw_all := lw_g (lw_at lw_m6 93 rfl) rfl
theorem q1353 : (Jvm.Cond.code ({ cls := "HedgehogLotsModel", name := "back", desc := "(I)I" } : Jvm.MethodName) prog_11_method_76_code (2 : Nat) (Option.some Jvm.ClassFile.FieldType.int)) ∈ lw_all := lw_g (lw_at lw_m6 94 rfl) rfl
theorem q1355 : (Jvm.Cond.instanceMethod ({ cls := "HedgehogLotsModel", name := "sheet", desc := "(III)I" } : Jvm.MethodName)) ∈ lw_all := lw_g (lw_at lw_m6 96 rfl) rfl
theorem q1356 : (Jvm.Cond.selects "HedgehogLotsModel" ({ cls := "HedgehogLotsModel", name := "sheet", desc := "(III)I" } : Jvm.MethodName) ({ cls := "HedgehogLotsModel", name := "sheet", desc := "(III)I" } : Jvm.MethodName)) ∈ lw_all := lw_g (lw_at lw_m6 97 rfl) rfl
theorem q1357 : (Jvm.Cond.code ({ cls := "HedgehogLotsModel", name := "sheet", desc := "(III)I" } : Jvm.MethodName) prog_11_method_77_code (5 : Nat) (Option.some Jvm.ClassFile.FieldType.int)) ∈ lw_all := lw_g (lw_at lw_m6 98 rfl) rfl
theorem q1359 : (Jvm.Cond.instanceMethod ({ cls := "HedgehogLotsModel", name := "write", desc := "(III)I" } : Jvm.MethodName)) ∈ lw_all := lw_g (lw_at lw_m6 100 rfl) rfl
theorem q1360 : (Jvm.Cond.selects "HedgehogLotsModel" ({ cls := "HedgehogLotsModel", name := "write", desc := "(III)I" } : Jvm.MethodName) ({ cls := "HedgehogLotsModel", name := "write", desc := "(III)I" } : Jvm.MethodName)) ∈ lw_all := lw_g (lw_at lw_m6 101 rfl) rfl
theorem q1361 : (Jvm.Cond.code ({ cls := "HedgehogLotsModel", name := "write", desc := "(III)I" } : Jvm.MethodName) prog_11_method_78_code (4 : Nat) (Option.some Jvm.ClassFile.FieldType.int)) ∈ lw_all := lw_g (lw_at lw_m6 102 rfl) rfl
theorem q1363 : (Jvm.Cond.instanceMethod ({ cls := "HedgehogLotsModel", name := "read", desc := "(IIII)I" } : Jvm.MethodName)) ∈ lw_all := lw_g (lw_at lw_m6 104 rfl) rfl
theorem q1364 : (Jvm.Cond.selects "HedgehogLotsModel" ({ cls := "HedgehogLotsModel", name := "read", desc := "(IIII)I" } : Jvm.MethodName) ({ cls := "HedgehogLotsModel", name := "read", desc := "(IIII)I" } : Jvm.MethodName)) ∈ lw_all := lw_g (lw_at lw_m6 105 rfl) rfl
theorem q1365 : (Jvm.Cond.code ({ cls := "HedgehogLotsModel", name := "read", desc := "(IIII)I" } : Jvm.MethodName) prog_11_method_79_code (9 : Nat) (Option.some Jvm.ClassFile.FieldType.int)) ∈ lw_all := lw_g (lw_at lw_m6 106 rfl) rfl
theorem q1366 : (Jvm.Cond.constantLong "HedgehogLotsModel" (247 : Nat) (20 : Int64)) ∈ lw_all := lw_g (lw_at lw_m6 107 rfl) rfl
theorem q1368 : (Jvm.Cond.instanceMethod ({ cls := "HedgehogLotsModel", name := "torn", desc := "()I" } : Jvm.MethodName)) ∈ lw_all := lw_g (lw_at lw_m6 109 rfl) rfl
theorem q1369 : (Jvm.Cond.selects "HedgehogLotsModel" ({ cls := "HedgehogLotsModel", name := "torn", desc := "()I" } : Jvm.MethodName) ({ cls := "HedgehogLotsModel", name := "torn", desc := "()I" } : Jvm.MethodName)) ∈ lw_all := lw_g (lw_at lw_m6 110 rfl) rfl
theorem q1370 : (Jvm.Cond.code ({ cls := "HedgehogLotsModel", name := "torn", desc := "()I" } : Jvm.MethodName) prog_11_method_80_code (1 : Nat) (Option.some Jvm.ClassFile.FieldType.int)) ∈ lw_all := lw_g (lw_at lw_m6 111 rfl) rfl
theorem q1372 : (Jvm.Cond.instanceMethod ({ cls := "HedgehogLotsModel", name := "count", desc := "(I)I" } : Jvm.MethodName)) ∈ lw_all := lw_g (lw_at lw_m6 113 rfl) rfl
theorem q1373 : (Jvm.Cond.selects "HedgehogLotsModel" ({ cls := "HedgehogLotsModel", name := "count", desc := "(I)I" } : Jvm.MethodName) ({ cls := "HedgehogLotsModel", name := "count", desc := "(I)I" } : Jvm.MethodName)) ∈ lw_all := lw_g (lw_at lw_m6 114 rfl) rfl
theorem q1374 : (Jvm.Cond.code ({ cls := "HedgehogLotsModel", name := "count", desc := "(I)I" } : Jvm.MethodName) prog_11_method_81_code (5 : Nat) (Option.some Jvm.ClassFile.FieldType.int)) ∈ lw_all := lw_g (lw_at lw_m6 115 rfl) rfl
theorem in_X7 : ∀ w ∈ wsX70, w ∈ lw_all := lw_in wsX70 [990, 992, 994, 996, 998, 1000, 1002, 1004, 1006, 1008, 1010, 1012, 1014, 1016, 1018, 1020, 1022, 1024, 1026, 1028, 1030, 1032, 1034, 1036, 1038, 1040, 1042, 1044, 1046] (by decide +kernel) (by decide +kernel)
