/-! HedgehogLots -/
set_option maxRecDepth 100000
def RX0 : String := "HedgehogLots"
def TX0 : u_T := fun k => match k with
  | 0 => ("HedgehogLots", "kinds", "[LHedgehogLots$Plain;", true)
  | 1 => ("HedgehogLots", "now", "LHedgehogLots$Slope;", true)
  | 2 => ("HedgehogLots", "tried", "LHedgehogLots$Slope;", true)
  | 3 => ("HedgehogLots", "images", "[LHedgehogLots$Slope;", true)
  | 4 => ("HedgehogLots", "kept", "I", false)
  | 5 => ("HedgehogLots", "seen", "[B", true)
  | 6 => ("HedgehogLots", "seenMany", "I", false)
  | 7 => ("HedgehogLots", "way", "[B", true)
  | 8 => ("HedgehogLots", "rests", "I", false)
  | 9 => ("HedgehogLots", "ended", "I", false)
  | 10 => ("HedgehogLots", "meets", "I", false)
  | 11 => ("HedgehogLots", "opens", "Z", false)
  | 12 => ("HedgehogLots", "tape", "[B", true)
  | 13 => ("HedgehogLots", "taped", "I", false)
  | 14 => ("HedgehogLots", "fault", "I", false)
  | 15 => ("HedgehogLots", "found", "I", false)
  | 16 => ("HedgehogLots", "foundMany", "I", false)
  | 17 => ("HedgehogLots", "winSum", "J", false)
  | 18 => ("HedgehogLots", "meetSum", "J", false)
  | 19 => ("HedgehogLots", "allWays", "J", false)
  | 20 => ("HedgehogLots", "ways", "[B", true)
  | 21 => ("HedgehogLots", "sheets", "[LHedgehogLots$Sheet;", true)
  | _ => ("HedgehogLots", "torn", "I", false)
def tyX0 : Nat → FieldType := fun k => match k with
  | 0 => .array (.object "HedgehogLots$Plain")
  | 1 => .object "HedgehogLots$Slope"
  | 2 => .object "HedgehogLots$Slope"
  | 3 => .array (.object "HedgehogLots$Slope")
  | 4 => .int
  | 5 => .array .byte
  | 6 => .int
  | 7 => .array .byte
  | 8 => .int
  | 9 => .int
  | 10 => .int
  | 11 => .boolean
  | 12 => .array .byte
  | 13 => .int
  | 14 => .int
  | 15 => .int
  | 16 => .int
  | 17 => .long
  | 18 => .long
  | 19 => .long
  | 20 => .array .byte
  | 21 => .array (.object "HedgehogLots$Sheet")
  | _ => .int
abbrev wsX00 : List Cond := u_ws RX0 TX0 23
set_option maxRecDepth 100000 in
theorem nmX0 : ∀ a, a < 23 → ∀ b, b < 23 → a ≠ b → (TX0 a).2.1 ≠ (TX0 b).2.1 := by decide +kernel
set_option maxRecDepth 100000 in
theorem tyX0_ok : ∀ k, k < 23 → parseFieldDescriptor (TX0 k).2.2.1 = some (tyX0 k) := by decide +kernel
abbrev cX0_init : ByteArray := prog_1_method_10_code
def yX0_init : MethodName := ⟨RX0, "<init>", "()V"⟩
def dkwX0_init_7 : List UInt8 := [167, 255, 235, 177]
abbrev dktX0_init_7 : List UInt8 := dkwX0_init_7 ++ []
def dkwX0_init_6 : List UInt8 := [3, 60, 27, 7, 162, 0, 22, 42, 180, 0, 132, 27, 187, 0, 130, 89, 183, 0, 136, 83, 132, 1, 1]
abbrev dktX0_init_6 : List UInt8 := dkwX0_init_6 ++ dktX0_init_7
def dkwX0_init_5 : List UInt8 := [17, 0, 160, 188, 8, 181, 0, 124, 42, 16, 8, 188, 8, 181, 0, 127, 42, 7, 189, 0, 130, 181, 0, 132]
abbrev dktX0_init_5 : List UInt8 := dkwX0_init_5 ++ dktX0_init_6
def dkwX0_init_4 : List UInt8 := [183, 0, 109, 83, 181, 0, 117, 42, 16, 18, 188, 8, 181, 0, 121, 42, 16, 10, 188, 8, 181, 0, 40, 42]
abbrev dktX0_init_4 : List UInt8 := dkwX0_init_4 ++ dktX0_init_5
def dkwX0_init_3 : List UInt8 := [181, 0, 114, 42, 5, 189, 0, 17, 89, 3, 187, 0, 17, 89, 183, 0, 109, 83, 89, 4, 187, 0, 17, 89]
abbrev dktX0_init_3 : List UInt8 := dkwX0_init_3 ++ dktX0_init_4
def dkwX0_init_2 : List UInt8 := [83, 181, 0, 12, 42, 187, 0, 17, 89, 183, 0, 109, 181, 0, 110, 42, 187, 0, 17, 89, 183, 0, 109]
abbrev dktX0_init_2 : List UInt8 := dkwX0_init_2 ++ dktX0_init_3
def dkwX0_init_1 : List UInt8 := [89, 183, 0, 102, 83, 89, 5, 187, 0, 103, 89, 183, 0, 105, 83, 89, 6, 187, 0, 106, 89, 183, 0, 108]
abbrev dktX0_init_1 : List UInt8 := dkwX0_init_1 ++ dktX0_init_2
def dkwX0_init_0 : List UInt8 := [42, 183, 0, 93, 42, 7, 189, 0, 48, 89, 3, 187, 0, 48, 89, 183, 0, 99, 83, 89, 4, 187, 0, 100]
abbrev dktX0_init_0 : List UInt8 := dkwX0_init_0 ++ dktX0_init_1
theorem dksX0_init_0 : cX0_init.data.toList.drop 0 = dktX0_init_0 := by decide +kernel
theorem dksX0_init_1 : cX0_init.data.toList.drop 24 = dktX0_init_1 := dk_seg dksX0_init_0 24 rfl rfl
theorem dksX0_init_2 : cX0_init.data.toList.drop 48 = dktX0_init_2 := dk_seg dksX0_init_1 24 rfl rfl
theorem dksX0_init_3 : cX0_init.data.toList.drop 71 = dktX0_init_3 := dk_seg dksX0_init_2 23 rfl rfl
theorem dksX0_init_4 : cX0_init.data.toList.drop 95 = dktX0_init_4 := dk_seg dksX0_init_3 24 rfl rfl
theorem dksX0_init_5 : cX0_init.data.toList.drop 119 = dktX0_init_5 := dk_seg dksX0_init_4 24 rfl rfl
theorem dksX0_init_6 : cX0_init.data.toList.drop 143 = dktX0_init_6 := dk_seg dksX0_init_5 24 rfl rfl
theorem dksX0_init_7 : cX0_init.data.toList.drop 166 = dktX0_init_7 := dk_seg dksX0_init_6 23 rfl rfl
theorem dX0_init_0 : decode cX0_init 0 = .ok (.aload_n 0, 1) := dk_42 (dk_at dksX0_init_0 0 rfl rfl)
theorem dX0_init_1 : decode cX0_init 1 = .ok (.invokespecial 93, 3) := dk_183 0 93 (dk_at dksX0_init_0 1 rfl rfl)
theorem dX0_init_4 : decode cX0_init 4 = .ok (.aload_n 0, 1) := dk_42 (dk_at dksX0_init_0 4 rfl rfl)
theorem dX0_init_5 : decode cX0_init 5 = .ok (.iconst 4, 1) := dk_7 (dk_at dksX0_init_0 5 rfl rfl)
theorem dX0_init_6 : decode cX0_init 6 = .ok (.anewarray 48, 3) := dk_189 0 48 (dk_at dksX0_init_0 6 rfl rfl)
theorem dX0_init_9 : decode cX0_init 9 = .ok (.dup, 1) := dk_89 (dk_at dksX0_init_0 9 rfl rfl)
theorem dX0_init_10 : decode cX0_init 10 = .ok (.iconst 0, 1) := dk_3 (dk_at dksX0_init_0 10 rfl rfl)
theorem dX0_init_11 : decode cX0_init 11 = .ok (.new 48, 3) := dk_187 0 48 (dk_at dksX0_init_0 11 rfl rfl)
theorem dX0_init_14 : decode cX0_init 14 = .ok (.dup, 1) := dk_89 (dk_at dksX0_init_0 14 rfl rfl)
theorem dX0_init_15 : decode cX0_init 15 = .ok (.invokespecial 99, 3) := dk_183 0 99 (dk_at dksX0_init_0 15 rfl rfl)
theorem dX0_init_18 : decode cX0_init 18 = .ok (.aastore, 1) := dk_83 (dk_at dksX0_init_0 18 rfl rfl)
theorem dX0_init_19 : decode cX0_init 19 = .ok (.dup, 1) := dk_89 (dk_at dksX0_init_0 19 rfl rfl)
theorem dX0_init_20 : decode cX0_init 20 = .ok (.iconst 1, 1) := dk_4 (dk_at dksX0_init_0 20 rfl rfl)
theorem dX0_init_21 : decode cX0_init 21 = .ok (.new 100, 3) := dk_187 0 100 (dk_at dksX0_init_0 21 rfl rfl)
theorem dX0_init_24 : decode cX0_init 24 = .ok (.dup, 1) := dk_89 (dk_at dksX0_init_1 0 rfl rfl)
theorem dX0_init_25 : decode cX0_init 25 = .ok (.invokespecial 102, 3) := dk_183 0 102 (dk_at dksX0_init_1 1 rfl rfl)
theorem dX0_init_28 : decode cX0_init 28 = .ok (.aastore, 1) := dk_83 (dk_at dksX0_init_1 4 rfl rfl)
theorem dX0_init_29 : decode cX0_init 29 = .ok (.dup, 1) := dk_89 (dk_at dksX0_init_1 5 rfl rfl)
theorem dX0_init_30 : decode cX0_init 30 = .ok (.iconst 2, 1) := dk_5 (dk_at dksX0_init_1 6 rfl rfl)
theorem dX0_init_31 : decode cX0_init 31 = .ok (.new 103, 3) := dk_187 0 103 (dk_at dksX0_init_1 7 rfl rfl)
theorem dX0_init_34 : decode cX0_init 34 = .ok (.dup, 1) := dk_89 (dk_at dksX0_init_1 10 rfl rfl)
theorem dX0_init_35 : decode cX0_init 35 = .ok (.invokespecial 105, 3) := dk_183 0 105 (dk_at dksX0_init_1 11 rfl rfl)
theorem dX0_init_38 : decode cX0_init 38 = .ok (.aastore, 1) := dk_83 (dk_at dksX0_init_1 14 rfl rfl)
theorem dX0_init_39 : decode cX0_init 39 = .ok (.dup, 1) := dk_89 (dk_at dksX0_init_1 15 rfl rfl)
theorem dX0_init_40 : decode cX0_init 40 = .ok (.iconst 3, 1) := dk_6 (dk_at dksX0_init_1 16 rfl rfl)
theorem dX0_init_41 : decode cX0_init 41 = .ok (.new 106, 3) := dk_187 0 106 (dk_at dksX0_init_1 17 rfl rfl)
theorem dX0_init_44 : decode cX0_init 44 = .ok (.dup, 1) := dk_89 (dk_at dksX0_init_1 20 rfl rfl)
theorem dX0_init_45 : decode cX0_init 45 = .ok (.invokespecial 108, 3) := dk_183 0 108 (dk_at dksX0_init_1 21 rfl rfl)
theorem dX0_init_48 : decode cX0_init 48 = .ok (.aastore, 1) := dk_83 (dk_at dksX0_init_2 0 rfl rfl)
theorem dX0_init_49 : decode cX0_init 49 = .ok (.putfield 12, 3) := dk_181 0 12 (dk_at dksX0_init_2 1 rfl rfl)
theorem dX0_init_52 : decode cX0_init 52 = .ok (.aload_n 0, 1) := dk_42 (dk_at dksX0_init_2 4 rfl rfl)
theorem dX0_init_53 : decode cX0_init 53 = .ok (.new 17, 3) := dk_187 0 17 (dk_at dksX0_init_2 5 rfl rfl)
theorem dX0_init_56 : decode cX0_init 56 = .ok (.dup, 1) := dk_89 (dk_at dksX0_init_2 8 rfl rfl)
theorem dX0_init_57 : decode cX0_init 57 = .ok (.invokespecial 109, 3) := dk_183 0 109 (dk_at dksX0_init_2 9 rfl rfl)
theorem dX0_init_60 : decode cX0_init 60 = .ok (.putfield 110, 3) := dk_181 0 110 (dk_at dksX0_init_2 12 rfl rfl)
theorem dX0_init_63 : decode cX0_init 63 = .ok (.aload_n 0, 1) := dk_42 (dk_at dksX0_init_2 15 rfl rfl)
theorem dX0_init_64 : decode cX0_init 64 = .ok (.new 17, 3) := dk_187 0 17 (dk_at dksX0_init_2 16 rfl rfl)
theorem dX0_init_67 : decode cX0_init 67 = .ok (.dup, 1) := dk_89 (dk_at dksX0_init_2 19 rfl rfl)
theorem dX0_init_68 : decode cX0_init 68 = .ok (.invokespecial 109, 3) := dk_183 0 109 (dk_at dksX0_init_2 20 rfl rfl)
theorem dX0_init_71 : decode cX0_init 71 = .ok (.putfield 114, 3) := dk_181 0 114 (dk_at dksX0_init_3 0 rfl rfl)
theorem dX0_init_74 : decode cX0_init 74 = .ok (.aload_n 0, 1) := dk_42 (dk_at dksX0_init_3 3 rfl rfl)
theorem dX0_init_75 : decode cX0_init 75 = .ok (.iconst 2, 1) := dk_5 (dk_at dksX0_init_3 4 rfl rfl)
theorem dX0_init_76 : decode cX0_init 76 = .ok (.anewarray 17, 3) := dk_189 0 17 (dk_at dksX0_init_3 5 rfl rfl)
theorem dX0_init_79 : decode cX0_init 79 = .ok (.dup, 1) := dk_89 (dk_at dksX0_init_3 8 rfl rfl)
theorem dX0_init_80 : decode cX0_init 80 = .ok (.iconst 0, 1) := dk_3 (dk_at dksX0_init_3 9 rfl rfl)
theorem dX0_init_81 : decode cX0_init 81 = .ok (.new 17, 3) := dk_187 0 17 (dk_at dksX0_init_3 10 rfl rfl)
theorem dX0_init_84 : decode cX0_init 84 = .ok (.dup, 1) := dk_89 (dk_at dksX0_init_3 13 rfl rfl)
theorem dX0_init_85 : decode cX0_init 85 = .ok (.invokespecial 109, 3) := dk_183 0 109 (dk_at dksX0_init_3 14 rfl rfl)
theorem dX0_init_88 : decode cX0_init 88 = .ok (.aastore, 1) := dk_83 (dk_at dksX0_init_3 17 rfl rfl)
theorem dX0_init_89 : decode cX0_init 89 = .ok (.dup, 1) := dk_89 (dk_at dksX0_init_3 18 rfl rfl)
theorem dX0_init_90 : decode cX0_init 90 = .ok (.iconst 1, 1) := dk_4 (dk_at dksX0_init_3 19 rfl rfl)
theorem dX0_init_91 : decode cX0_init 91 = .ok (.new 17, 3) := dk_187 0 17 (dk_at dksX0_init_3 20 rfl rfl)
theorem dX0_init_94 : decode cX0_init 94 = .ok (.dup, 1) := dk_89 (dk_at dksX0_init_3 23 rfl rfl)
theorem dX0_init_95 : decode cX0_init 95 = .ok (.invokespecial 109, 3) := dk_183 0 109 (dk_at dksX0_init_4 0 rfl rfl)
theorem dX0_init_98 : decode cX0_init 98 = .ok (.aastore, 1) := dk_83 (dk_at dksX0_init_4 3 rfl rfl)
theorem dX0_init_99 : decode cX0_init 99 = .ok (.putfield 117, 3) := dk_181 0 117 (dk_at dksX0_init_4 4 rfl rfl)
theorem dX0_init_102 : decode cX0_init 102 = .ok (.aload_n 0, 1) := dk_42 (dk_at dksX0_init_4 7 rfl rfl)
theorem dX0_init_103 : decode cX0_init 103 = .ok (.bipush 18, 2) := dk_16 18 (dk_at dksX0_init_4 8 rfl rfl)
theorem dX0_init_105 : decode cX0_init 105 = .ok (.newarray .byte, 2) := dk_188_8 (dk_at dksX0_init_4 10 rfl rfl)
theorem dX0_init_107 : decode cX0_init 107 = .ok (.putfield 121, 3) := dk_181 0 121 (dk_at dksX0_init_4 12 rfl rfl)
theorem dX0_init_110 : decode cX0_init 110 = .ok (.aload_n 0, 1) := dk_42 (dk_at dksX0_init_4 15 rfl rfl)
theorem dX0_init_111 : decode cX0_init 111 = .ok (.bipush 10, 2) := dk_16 10 (dk_at dksX0_init_4 16 rfl rfl)
theorem dX0_init_113 : decode cX0_init 113 = .ok (.newarray .byte, 2) := dk_188_8 (dk_at dksX0_init_4 18 rfl rfl)
theorem dX0_init_115 : decode cX0_init 115 = .ok (.putfield 40, 3) := dk_181 0 40 (dk_at dksX0_init_4 20 rfl rfl)
theorem dX0_init_118 : decode cX0_init 118 = .ok (.aload_n 0, 1) := dk_42 (dk_at dksX0_init_4 23 rfl rfl)
theorem dX0_init_119 : decode cX0_init 119 = .ok (.sipush 160, 3) := dk_17 0 160 (dk_at dksX0_init_5 0 rfl rfl)
theorem dX0_init_122 : decode cX0_init 122 = .ok (.newarray .byte, 2) := dk_188_8 (dk_at dksX0_init_5 3 rfl rfl)
theorem dX0_init_124 : decode cX0_init 124 = .ok (.putfield 124, 3) := dk_181 0 124 (dk_at dksX0_init_5 5 rfl rfl)
theorem dX0_init_127 : decode cX0_init 127 = .ok (.aload_n 0, 1) := dk_42 (dk_at dksX0_init_5 8 rfl rfl)
theorem dX0_init_128 : decode cX0_init 128 = .ok (.bipush 8, 2) := dk_16 8 (dk_at dksX0_init_5 9 rfl rfl)
theorem dX0_init_130 : decode cX0_init 130 = .ok (.newarray .byte, 2) := dk_188_8 (dk_at dksX0_init_5 11 rfl rfl)
theorem dX0_init_132 : decode cX0_init 132 = .ok (.putfield 127, 3) := dk_181 0 127 (dk_at dksX0_init_5 13 rfl rfl)
theorem dX0_init_135 : decode cX0_init 135 = .ok (.aload_n 0, 1) := dk_42 (dk_at dksX0_init_5 16 rfl rfl)
theorem dX0_init_136 : decode cX0_init 136 = .ok (.iconst 4, 1) := dk_7 (dk_at dksX0_init_5 17 rfl rfl)
theorem dX0_init_137 : decode cX0_init 137 = .ok (.anewarray 130, 3) := dk_189 0 130 (dk_at dksX0_init_5 18 rfl rfl)
theorem dX0_init_140 : decode cX0_init 140 = .ok (.putfield 132, 3) := dk_181 0 132 (dk_at dksX0_init_5 21 rfl rfl)
theorem dX0_init_143 : decode cX0_init 143 = .ok (.iconst 0, 1) := dk_3 (dk_at dksX0_init_6 0 rfl rfl)
theorem dX0_init_144 : decode cX0_init 144 = .ok (.istore_n 1, 1) := dk_60 (dk_at dksX0_init_6 1 rfl rfl)
theorem dX0_init_145 : decode cX0_init 145 = .ok (.iload_n 1, 1) := dk_27 (dk_at dksX0_init_6 2 rfl rfl)
theorem dX0_init_146 : decode cX0_init 146 = .ok (.iconst 4, 1) := dk_7 (dk_at dksX0_init_6 3 rfl rfl)
theorem dX0_init_147 : decode cX0_init 147 = .ok (.if_icmp .ge 22, 3) := dk_162 0 22 (dk_at dksX0_init_6 4 rfl rfl)
theorem dX0_init_150 : decode cX0_init 150 = .ok (.aload_n 0, 1) := dk_42 (dk_at dksX0_init_6 7 rfl rfl)
theorem dX0_init_151 : decode cX0_init 151 = .ok (.getfield 132, 3) := dk_180 0 132 (dk_at dksX0_init_6 8 rfl rfl)
theorem dX0_init_154 : decode cX0_init 154 = .ok (.iload_n 1, 1) := dk_27 (dk_at dksX0_init_6 11 rfl rfl)
theorem dX0_init_155 : decode cX0_init 155 = .ok (.new 130, 3) := dk_187 0 130 (dk_at dksX0_init_6 12 rfl rfl)
theorem dX0_init_158 : decode cX0_init 158 = .ok (.dup, 1) := dk_89 (dk_at dksX0_init_6 15 rfl rfl)
theorem dX0_init_159 : decode cX0_init 159 = .ok (.invokespecial 136, 3) := dk_183 0 136 (dk_at dksX0_init_6 16 rfl rfl)
theorem dX0_init_162 : decode cX0_init 162 = .ok (.aastore, 1) := dk_83 (dk_at dksX0_init_6 19 rfl rfl)
theorem dX0_init_163 : decode cX0_init 163 = .ok (.iinc 1 1, 3) := dk_132 1 1 (dk_at dksX0_init_6 20 rfl rfl)
theorem dX0_init_166 : decode cX0_init 166 = .ok (.goto (-21), 3) := dk_167 255 235 (dk_at dksX0_init_7 0 rfl rfl)
theorem dX0_init_169 : decode cX0_init 169 = .ok (.return_, 1) := dk_177 (dk_at dksX0_init_7 3 rfl rfl)
abbrev cX0_feed : ByteArray := prog_1_method_11_code
def yX0_feed : MethodName := ⟨RX0, "feed", "(I)I"⟩
def dkwX0_feed_2 : List UInt8 := [42, 180, 0, 143, 172]
abbrev dktX0_feed_2 : List UInt8 := dkwX0_feed_2 ++ []
def dkwX0_feed_1 : List UInt8 := [16, 253, 172, 42, 180, 0, 124, 42, 180, 0, 143, 27, 145, 84, 42, 89, 180, 0, 143, 4, 96, 181, 0, 143]
abbrev dktX0_feed_1 : List UInt8 := dkwX0_feed_1 ++ dktX0_feed_2
def dkwX0_feed_0 : List UInt8 := [27, 133, 9, 20, 0, 137, 184, 0, 139, 154, 0, 5, 2, 172, 42, 180, 0, 143, 17, 0, 160, 160, 0, 6]
abbrev dktX0_feed_0 : List UInt8 := dkwX0_feed_0 ++ dktX0_feed_1
theorem dksX0_feed_0 : cX0_feed.data.toList.drop 0 = dktX0_feed_0 := by decide +kernel
theorem dksX0_feed_1 : cX0_feed.data.toList.drop 24 = dktX0_feed_1 := dk_seg dksX0_feed_0 24 rfl rfl
theorem dksX0_feed_2 : cX0_feed.data.toList.drop 48 = dktX0_feed_2 := dk_seg dksX0_feed_1 24 rfl rfl
theorem dX0_feed_0 : decode cX0_feed 0 = .ok (.iload_n 1, 1) := dk_27 (dk_at dksX0_feed_0 0 rfl rfl)
theorem dX0_feed_1 : decode cX0_feed 1 = .ok (.i2l, 1) := dk_133 (dk_at dksX0_feed_0 1 rfl rfl)
theorem dX0_feed_2 : decode cX0_feed 2 = .ok (.lconst 0, 1) := dk_9 (dk_at dksX0_feed_0 2 rfl rfl)
theorem dX0_feed_3 : decode cX0_feed 3 = .ok (.ldc2_w 137, 3) := dk_20 0 137 (dk_at dksX0_feed_0 3 rfl rfl)
theorem dX0_feed_6 : decode cX0_feed 6 = .ok (.invokestatic 139, 3) := dk_184 0 139 (dk_at dksX0_feed_0 6 rfl rfl)
theorem dX0_feed_9 : decode cX0_feed 9 = .ok (.ifCond .ne 5, 3) := dk_154 0 5 (dk_at dksX0_feed_0 9 rfl rfl)
theorem dX0_feed_12 : decode cX0_feed 12 = .ok (.iconst (-1), 1) := dk_2 (dk_at dksX0_feed_0 12 rfl rfl)
theorem dX0_feed_13 : decode cX0_feed 13 = .ok (.ireturn, 1) := dk_172 (dk_at dksX0_feed_0 13 rfl rfl)
theorem dX0_feed_14 : decode cX0_feed 14 = .ok (.aload_n 0, 1) := dk_42 (dk_at dksX0_feed_0 14 rfl rfl)
theorem dX0_feed_15 : decode cX0_feed 15 = .ok (.getfield 143, 3) := dk_180 0 143 (dk_at dksX0_feed_0 15 rfl rfl)
theorem dX0_feed_18 : decode cX0_feed 18 = .ok (.sipush 160, 3) := dk_17 0 160 (dk_at dksX0_feed_0 18 rfl rfl)
theorem dX0_feed_21 : decode cX0_feed 21 = .ok (.if_icmp .ne 6, 3) := dk_160 0 6 (dk_at dksX0_feed_0 21 rfl rfl)
theorem dX0_feed_24 : decode cX0_feed 24 = .ok (.bipush (-3), 2) := dk_16 253 (dk_at dksX0_feed_1 0 rfl rfl)
theorem dX0_feed_26 : decode cX0_feed 26 = .ok (.ireturn, 1) := dk_172 (dk_at dksX0_feed_1 2 rfl rfl)
theorem dX0_feed_27 : decode cX0_feed 27 = .ok (.aload_n 0, 1) := dk_42 (dk_at dksX0_feed_1 3 rfl rfl)
theorem dX0_feed_28 : decode cX0_feed 28 = .ok (.getfield 124, 3) := dk_180 0 124 (dk_at dksX0_feed_1 4 rfl rfl)
theorem dX0_feed_31 : decode cX0_feed 31 = .ok (.aload_n 0, 1) := dk_42 (dk_at dksX0_feed_1 7 rfl rfl)
theorem dX0_feed_32 : decode cX0_feed 32 = .ok (.getfield 143, 3) := dk_180 0 143 (dk_at dksX0_feed_1 8 rfl rfl)
theorem dX0_feed_35 : decode cX0_feed 35 = .ok (.iload_n 1, 1) := dk_27 (dk_at dksX0_feed_1 11 rfl rfl)
theorem dX0_feed_36 : decode cX0_feed 36 = .ok (.i2b, 1) := dk_145 (dk_at dksX0_feed_1 12 rfl rfl)
theorem dX0_feed_37 : decode cX0_feed 37 = .ok (.bastore, 1) := dk_84 (dk_at dksX0_feed_1 13 rfl rfl)
theorem dX0_feed_38 : decode cX0_feed 38 = .ok (.aload_n 0, 1) := dk_42 (dk_at dksX0_feed_1 14 rfl rfl)
theorem dX0_feed_39 : decode cX0_feed 39 = .ok (.dup, 1) := dk_89 (dk_at dksX0_feed_1 15 rfl rfl)
theorem dX0_feed_40 : decode cX0_feed 40 = .ok (.getfield 143, 3) := dk_180 0 143 (dk_at dksX0_feed_1 16 rfl rfl)
theorem dX0_feed_43 : decode cX0_feed 43 = .ok (.iconst 1, 1) := dk_4 (dk_at dksX0_feed_1 19 rfl rfl)
theorem dX0_feed_44 : decode cX0_feed 44 = .ok (.iadd, 1) := dk_96 (dk_at dksX0_feed_1 20 rfl rfl)
theorem dX0_feed_45 : decode cX0_feed 45 = .ok (.putfield 143, 3) := dk_181 0 143 (dk_at dksX0_feed_1 21 rfl rfl)
theorem dX0_feed_48 : decode cX0_feed 48 = .ok (.aload_n 0, 1) := dk_42 (dk_at dksX0_feed_2 0 rfl rfl)
theorem dX0_feed_49 : decode cX0_feed 49 = .ok (.getfield 143, 3) := dk_180 0 143 (dk_at dksX0_feed_2 1 rfl rfl)
theorem dX0_feed_52 : decode cX0_feed 52 = .ok (.ireturn, 1) := dk_172 (dk_at dksX0_feed_2 4 rfl rfl)
abbrev cX0_in : ByteArray := prog_1_method_1_code
def yX0_in : MethodName := ⟨RX0, "in", "(JJJ)Z"⟩
def dkwX0_in_0 : List UInt8 := [30, 32, 148, 155, 0, 14, 30, 22, 4, 148, 157, 0, 7, 4, 167, 0, 4, 3, 172]
abbrev dktX0_in_0 : List UInt8 := dkwX0_in_0 ++ []
theorem dksX0_in_0 : cX0_in.data.toList.drop 0 = dktX0_in_0 := by decide +kernel
theorem dX0_in_0 : decode cX0_in 0 = .ok (.lload_n 0, 1) := dk_30 (dk_at dksX0_in_0 0 rfl rfl)
theorem dX0_in_1 : decode cX0_in 1 = .ok (.lload_n 2, 1) := dk_32 (dk_at dksX0_in_0 1 rfl rfl)
theorem dX0_in_2 : decode cX0_in 2 = .ok (.lcmp, 1) := dk_148 (dk_at dksX0_in_0 2 rfl rfl)
theorem dX0_in_3 : decode cX0_in 3 = .ok (.ifCond .lt 14, 3) := dk_155 0 14 (dk_at dksX0_in_0 3 rfl rfl)
theorem dX0_in_6 : decode cX0_in 6 = .ok (.lload_n 0, 1) := dk_30 (dk_at dksX0_in_0 6 rfl rfl)
theorem dX0_in_7 : decode cX0_in 7 = .ok (.lload 4, 2) := dk_22 4 (dk_at dksX0_in_0 7 rfl rfl)
theorem dX0_in_9 : decode cX0_in 9 = .ok (.lcmp, 1) := dk_148 (dk_at dksX0_in_0 9 rfl rfl)
theorem dX0_in_10 : decode cX0_in 10 = .ok (.ifCond .gt 7, 3) := dk_157 0 7 (dk_at dksX0_in_0 10 rfl rfl)
theorem dX0_in_13 : decode cX0_in 13 = .ok (.iconst 1, 1) := dk_4 (dk_at dksX0_in_0 13 rfl rfl)
theorem dX0_in_14 : decode cX0_in 14 = .ok (.goto 4, 3) := dk_167 0 4 (dk_at dksX0_in_0 14 rfl rfl)
theorem dX0_in_17 : decode cX0_in 17 = .ok (.iconst 0, 1) := dk_3 (dk_at dksX0_in_0 17 rfl rfl)
theorem dX0_in_18 : decode cX0_in 18 = .ok (.ireturn, 1) := dk_172 (dk_at dksX0_in_0 18 rfl rfl)
abbrev cX0_end : ByteArray := prog_1_method_12_code
def yX0_end : MethodName := ⟨RX0, "end", "(I)I"⟩
def dkwX0_end_1 : List UInt8 := [181, 0, 143, 28, 172]
abbrev dktX0_end_1 : List UInt8 := dkwX0_end_1 ++ []
def dkwX0_end_0 : List UInt8 := [27, 133, 9, 42, 180, 0, 143, 133, 184, 0, 139, 154, 0, 5, 2, 172, 42, 180, 0, 143, 61, 42, 27]
abbrev dktX0_end_0 : List UInt8 := dkwX0_end_0 ++ dktX0_end_1
theorem dksX0_end_0 : cX0_end.data.toList.drop 0 = dktX0_end_0 := by decide +kernel
theorem dksX0_end_1 : cX0_end.data.toList.drop 23 = dktX0_end_1 := dk_seg dksX0_end_0 23 rfl rfl
theorem dX0_end_0 : decode cX0_end 0 = .ok (.iload_n 1, 1) := dk_27 (dk_at dksX0_end_0 0 rfl rfl)
theorem dX0_end_1 : decode cX0_end 1 = .ok (.i2l, 1) := dk_133 (dk_at dksX0_end_0 1 rfl rfl)
theorem dX0_end_2 : decode cX0_end 2 = .ok (.lconst 0, 1) := dk_9 (dk_at dksX0_end_0 2 rfl rfl)
theorem dX0_end_3 : decode cX0_end 3 = .ok (.aload_n 0, 1) := dk_42 (dk_at dksX0_end_0 3 rfl rfl)
theorem dX0_end_4 : decode cX0_end 4 = .ok (.getfield 143, 3) := dk_180 0 143 (dk_at dksX0_end_0 4 rfl rfl)
theorem dX0_end_7 : decode cX0_end 7 = .ok (.i2l, 1) := dk_133 (dk_at dksX0_end_0 7 rfl rfl)
theorem dX0_end_8 : decode cX0_end 8 = .ok (.invokestatic 139, 3) := dk_184 0 139 (dk_at dksX0_end_0 8 rfl rfl)
theorem dX0_end_11 : decode cX0_end 11 = .ok (.ifCond .ne 5, 3) := dk_154 0 5 (dk_at dksX0_end_0 11 rfl rfl)
theorem dX0_end_14 : decode cX0_end 14 = .ok (.iconst (-1), 1) := dk_2 (dk_at dksX0_end_0 14 rfl rfl)
theorem dX0_end_15 : decode cX0_end 15 = .ok (.ireturn, 1) := dk_172 (dk_at dksX0_end_0 15 rfl rfl)
theorem dX0_end_16 : decode cX0_end 16 = .ok (.aload_n 0, 1) := dk_42 (dk_at dksX0_end_0 16 rfl rfl)
theorem dX0_end_17 : decode cX0_end 17 = .ok (.getfield 143, 3) := dk_180 0 143 (dk_at dksX0_end_0 17 rfl rfl)
theorem dX0_end_20 : decode cX0_end 20 = .ok (.istore_n 2, 1) := dk_61 (dk_at dksX0_end_0 20 rfl rfl)
theorem dX0_end_21 : decode cX0_end 21 = .ok (.aload_n 0, 1) := dk_42 (dk_at dksX0_end_0 21 rfl rfl)
theorem dX0_end_22 : decode cX0_end 22 = .ok (.iload_n 1, 1) := dk_27 (dk_at dksX0_end_0 22 rfl rfl)
theorem dX0_end_23 : decode cX0_end 23 = .ok (.putfield 143, 3) := dk_181 0 143 (dk_at dksX0_end_1 0 rfl rfl)
theorem dX0_end_26 : decode cX0_end 26 = .ok (.iload_n 2, 1) := dk_28 (dk_at dksX0_end_1 3 rfl rfl)
theorem dX0_end_27 : decode cX0_end 27 = .ok (.ireturn, 1) := dk_172 (dk_at dksX0_end_1 4 rfl rfl)
abbrev cX0_text : ByteArray := prog_1_method_13_code
def yX0_text : MethodName := ⟨RX0, "text", "()I"⟩
def dkwX0_text_2 : List UInt8 := [181, 0, 167, 29, 172, 77, 42, 44, 180, 0, 172, 181, 0, 146, 16, 246, 44, 180, 0, 175, 100, 172]
abbrev dktX0_text_2 : List UInt8 := dkwX0_text_2 ++ []
def dkwX0_text_1 : List UInt8 := [77, 44, 182, 0, 154, 62, 42, 180, 0, 110, 44, 180, 0, 157, 182, 0, 160, 42, 3, 181, 0, 164, 42, 3]
abbrev dktX0_text_1 : List UInt8 := dkwX0_text_1 ++ dktX0_text_2
def dkwX0_text_0 : List UInt8 := [42, 180, 0, 143, 60, 42, 3, 181, 0, 143, 42, 3, 181, 0, 146, 187, 0, 149, 89, 42, 27, 183, 0, 151]
abbrev dktX0_text_0 : List UInt8 := dkwX0_text_0 ++ dktX0_text_1
theorem dksX0_text_0 : cX0_text.data.toList.drop 0 = dktX0_text_0 := by decide +kernel
theorem dksX0_text_1 : cX0_text.data.toList.drop 24 = dktX0_text_1 := dk_seg dksX0_text_0 24 rfl rfl
theorem dksX0_text_2 : cX0_text.data.toList.drop 48 = dktX0_text_2 := dk_seg dksX0_text_1 24 rfl rfl
theorem dX0_text_0 : decode cX0_text 0 = .ok (.aload_n 0, 1) := dk_42 (dk_at dksX0_text_0 0 rfl rfl)
theorem dX0_text_1 : decode cX0_text 1 = .ok (.getfield 143, 3) := dk_180 0 143 (dk_at dksX0_text_0 1 rfl rfl)
theorem dX0_text_4 : decode cX0_text 4 = .ok (.istore_n 1, 1) := dk_60 (dk_at dksX0_text_0 4 rfl rfl)
theorem dX0_text_5 : decode cX0_text 5 = .ok (.aload_n 0, 1) := dk_42 (dk_at dksX0_text_0 5 rfl rfl)
theorem dX0_text_6 : decode cX0_text 6 = .ok (.iconst 0, 1) := dk_3 (dk_at dksX0_text_0 6 rfl rfl)
theorem dX0_text_7 : decode cX0_text 7 = .ok (.putfield 143, 3) := dk_181 0 143 (dk_at dksX0_text_0 7 rfl rfl)
theorem dX0_text_10 : decode cX0_text 10 = .ok (.aload_n 0, 1) := dk_42 (dk_at dksX0_text_0 10 rfl rfl)
theorem dX0_text_11 : decode cX0_text 11 = .ok (.iconst 0, 1) := dk_3 (dk_at dksX0_text_0 11 rfl rfl)
theorem dX0_text_12 : decode cX0_text 12 = .ok (.putfield 146, 3) := dk_181 0 146 (dk_at dksX0_text_0 12 rfl rfl)
theorem dX0_text_15 : decode cX0_text 15 = .ok (.new 149, 3) := dk_187 0 149 (dk_at dksX0_text_0 15 rfl rfl)
theorem dX0_text_18 : decode cX0_text 18 = .ok (.dup, 1) := dk_89 (dk_at dksX0_text_0 18 rfl rfl)
theorem dX0_text_19 : decode cX0_text 19 = .ok (.aload_n 0, 1) := dk_42 (dk_at dksX0_text_0 19 rfl rfl)
theorem dX0_text_20 : decode cX0_text 20 = .ok (.iload_n 1, 1) := dk_27 (dk_at dksX0_text_0 20 rfl rfl)
theorem dX0_text_21 : decode cX0_text 21 = .ok (.invokespecial 151, 3) := dk_183 0 151 (dk_at dksX0_text_0 21 rfl rfl)
theorem dX0_text_24 : decode cX0_text 24 = .ok (.astore_n 2, 1) := dk_77 (dk_at dksX0_text_1 0 rfl rfl)
theorem dX0_text_25 : decode cX0_text 25 = .ok (.aload_n 2, 1) := dk_44 (dk_at dksX0_text_1 1 rfl rfl)
theorem dX0_text_26 : decode cX0_text 26 = .ok (.invokevirtual 154, 3) := dk_182 0 154 (dk_at dksX0_text_1 2 rfl rfl)
theorem dX0_text_29 : decode cX0_text 29 = .ok (.istore_n 3, 1) := dk_62 (dk_at dksX0_text_1 5 rfl rfl)
theorem dX0_text_30 : decode cX0_text 30 = .ok (.aload_n 0, 1) := dk_42 (dk_at dksX0_text_1 6 rfl rfl)
theorem dX0_text_31 : decode cX0_text 31 = .ok (.getfield 110, 3) := dk_180 0 110 (dk_at dksX0_text_1 7 rfl rfl)
theorem dX0_text_34 : decode cX0_text 34 = .ok (.aload_n 2, 1) := dk_44 (dk_at dksX0_text_1 10 rfl rfl)
theorem dX0_text_35 : decode cX0_text 35 = .ok (.getfield 157, 3) := dk_180 0 157 (dk_at dksX0_text_1 11 rfl rfl)
theorem dX0_text_38 : decode cX0_text 38 = .ok (.invokevirtual 160, 3) := dk_182 0 160 (dk_at dksX0_text_1 14 rfl rfl)
theorem dX0_text_41 : decode cX0_text 41 = .ok (.aload_n 0, 1) := dk_42 (dk_at dksX0_text_1 17 rfl rfl)
theorem dX0_text_42 : decode cX0_text 42 = .ok (.iconst 0, 1) := dk_3 (dk_at dksX0_text_1 18 rfl rfl)
theorem dX0_text_43 : decode cX0_text 43 = .ok (.putfield 164, 3) := dk_181 0 164 (dk_at dksX0_text_1 19 rfl rfl)
theorem dX0_text_46 : decode cX0_text 46 = .ok (.aload_n 0, 1) := dk_42 (dk_at dksX0_text_1 22 rfl rfl)
theorem dX0_text_47 : decode cX0_text 47 = .ok (.iconst 0, 1) := dk_3 (dk_at dksX0_text_1 23 rfl rfl)
theorem dX0_text_48 : decode cX0_text 48 = .ok (.putfield 167, 3) := dk_181 0 167 (dk_at dksX0_text_2 0 rfl rfl)
theorem dX0_text_51 : decode cX0_text 51 = .ok (.iload_n 3, 1) := dk_29 (dk_at dksX0_text_2 3 rfl rfl)
theorem dX0_text_52 : decode cX0_text 52 = .ok (.ireturn, 1) := dk_172 (dk_at dksX0_text_2 4 rfl rfl)
theorem dX0_text_53 : decode cX0_text 53 = .ok (.astore_n 2, 1) := dk_77 (dk_at dksX0_text_2 5 rfl rfl)
theorem dX0_text_54 : decode cX0_text 54 = .ok (.aload_n 0, 1) := dk_42 (dk_at dksX0_text_2 6 rfl rfl)
theorem dX0_text_55 : decode cX0_text 55 = .ok (.aload_n 2, 1) := dk_44 (dk_at dksX0_text_2 7 rfl rfl)
theorem dX0_text_56 : decode cX0_text 56 = .ok (.getfield 172, 3) := dk_180 0 172 (dk_at dksX0_text_2 8 rfl rfl)
theorem dX0_text_59 : decode cX0_text 59 = .ok (.putfield 146, 3) := dk_181 0 146 (dk_at dksX0_text_2 11 rfl rfl)
theorem dX0_text_62 : decode cX0_text 62 = .ok (.bipush (-10), 2) := dk_16 246 (dk_at dksX0_text_2 14 rfl rfl)
theorem dX0_text_64 : decode cX0_text 64 = .ok (.aload_n 2, 1) := dk_44 (dk_at dksX0_text_2 16 rfl rfl)
theorem dX0_text_65 : decode cX0_text 65 = .ok (.getfield 175, 3) := dk_180 0 175 (dk_at dksX0_text_2 17 rfl rfl)
theorem dX0_text_68 : decode cX0_text 68 = .ok (.isub, 1) := dk_100 (dk_at dksX0_text_2 20 rfl rfl)
theorem dX0_text_69 : decode cX0_text 69 = .ok (.ireturn, 1) := dk_172 (dk_at dksX0_text_2 21 rfl rfl)
abbrev cX0_isCell : ByteArray := prog_1_method_15_code
def yX0_isCell : MethodName := ⟨RX0, "isCell", "(I)Z"⟩
def dkwX0_isCell_1 : List UInt8 := [167, 0, 4, 3, 172]
abbrev dktX0_isCell_1 : List UInt8 := dkwX0_isCell_1 ++ []
def dkwX0_isCell_0 : List UInt8 := [26, 133, 9, 20, 0, 178, 184, 0, 139, 153, 0, 16, 26, 16, 10, 112, 16, 8, 162, 0, 7, 4]
abbrev dktX0_isCell_0 : List UInt8 := dkwX0_isCell_0 ++ dktX0_isCell_1
theorem dksX0_isCell_0 : cX0_isCell.data.toList.drop 0 = dktX0_isCell_0 := by decide +kernel
theorem dksX0_isCell_1 : cX0_isCell.data.toList.drop 22 = dktX0_isCell_1 := dk_seg dksX0_isCell_0 22 rfl rfl
theorem dX0_isCell_0 : decode cX0_isCell 0 = .ok (.iload_n 0, 1) := dk_26 (dk_at dksX0_isCell_0 0 rfl rfl)
theorem dX0_isCell_1 : decode cX0_isCell 1 = .ok (.i2l, 1) := dk_133 (dk_at dksX0_isCell_0 1 rfl rfl)
theorem dX0_isCell_2 : decode cX0_isCell 2 = .ok (.lconst 0, 1) := dk_9 (dk_at dksX0_isCell_0 2 rfl rfl)
theorem dX0_isCell_3 : decode cX0_isCell 3 = .ok (.ldc2_w 178, 3) := dk_20 0 178 (dk_at dksX0_isCell_0 3 rfl rfl)
theorem dX0_isCell_6 : decode cX0_isCell 6 = .ok (.invokestatic 139, 3) := dk_184 0 139 (dk_at dksX0_isCell_0 6 rfl rfl)
theorem dX0_isCell_9 : decode cX0_isCell 9 = .ok (.ifCond .eq 16, 3) := dk_153 0 16 (dk_at dksX0_isCell_0 9 rfl rfl)
theorem dX0_isCell_12 : decode cX0_isCell 12 = .ok (.iload_n 0, 1) := dk_26 (dk_at dksX0_isCell_0 12 rfl rfl)
theorem dX0_isCell_13 : decode cX0_isCell 13 = .ok (.bipush 10, 2) := dk_16 10 (dk_at dksX0_isCell_0 13 rfl rfl)
theorem dX0_isCell_15 : decode cX0_isCell 15 = .ok (.irem, 1) := dk_112 (dk_at dksX0_isCell_0 15 rfl rfl)
theorem dX0_isCell_16 : decode cX0_isCell 16 = .ok (.bipush 8, 2) := dk_16 8 (dk_at dksX0_isCell_0 16 rfl rfl)
theorem dX0_isCell_18 : decode cX0_isCell 18 = .ok (.if_icmp .ge 7, 3) := dk_162 0 7 (dk_at dksX0_isCell_0 18 rfl rfl)
theorem dX0_isCell_21 : decode cX0_isCell 21 = .ok (.iconst 1, 1) := dk_4 (dk_at dksX0_isCell_0 21 rfl rfl)
theorem dX0_isCell_22 : decode cX0_isCell 22 = .ok (.goto 4, 3) := dk_167 0 4 (dk_at dksX0_isCell_1 0 rfl rfl)
theorem dX0_isCell_25 : decode cX0_isCell 25 = .ok (.iconst 0, 1) := dk_3 (dk_at dksX0_isCell_1 3 rfl rfl)
theorem dX0_isCell_26 : decode cX0_isCell 26 = .ok (.ireturn, 1) := dk_172 (dk_at dksX0_isCell_1 4 rfl rfl)
abbrev cX0_fault : ByteArray := prog_1_method_14_code
def yX0_fault : MethodName := ⟨RX0, "fault", "()I"⟩
theorem dX0_fault_0 : decode cX0_fault 0 = .ok (.aload_n 0, 1) := by decide +kernel
theorem dX0_fault_1 : decode cX0_fault 1 = .ok (.getfield 146, 3) := by decide +kernel
theorem dX0_fault_4 : decode cX0_fault 4 = .ok (.ireturn, 1) := by decide +kernel
abbrev cX0_rule : ByteArray := prog_1_method_22_code
def yX0_rule : MethodName := ⟨RX0, "rule", "(I)I"⟩
def dkwX0_rule_4 : List UInt8 := [42, 180, 0, 110, 180, 0, 73, 172, 42, 42, 180, 0, 110, 182, 0, 199, 172, 28, 172, 2, 172]
abbrev dktX0_rule_4 : List UInt8 := dkwX0_rule_4 ++ []
def dkwX0_rule_3 : List UInt8 := [42, 180, 0, 110, 180, 0, 184, 172, 42, 180, 0, 110, 180, 0, 196, 172, 42, 180, 0, 110, 180, 0, 187, 172]
abbrev dktX0_rule_3 : List UInt8 := dkwX0_rule_3 ++ dktX0_rule_4
def dkwX0_rule_2 : List UInt8 := [170, 0, 0, 0, 0, 0, 0, 83, 0, 0, 0, 0, 0, 0, 0, 5, 0, 0, 0, 40, 0, 0, 0, 48, 0, 0, 0, 56, 0, 0, 0, 64, 0, 0, 0, 72, 0, 0, 0, 81]
abbrev dktX0_rule_2 : List UInt8 := dkwX0_rule_2 ++ dktX0_rule_3
def dkwX0_rule_1 : List UInt8 := [28, 42, 180, 0, 32, 153, 0, 9, 4, 29, 120, 167, 0, 4, 3, 128, 61, 132, 3, 1, 167, 255, 216, 27]
abbrev dktX0_rule_1 : List UInt8 := dkwX0_rule_1 ++ dktX0_rule_2
def dkwX0_rule_0 : List UInt8 := [3, 61, 3, 62, 29, 42, 180, 0, 110, 180, 0, 73, 162, 0, 35, 42, 42, 180, 0, 110, 29, 182, 0, 76]
abbrev dktX0_rule_0 : List UInt8 := dkwX0_rule_0 ++ dktX0_rule_1
theorem dksX0_rule_0 : cX0_rule.data.toList.drop 0 = dktX0_rule_0 := by decide +kernel
theorem dksX0_rule_1 : cX0_rule.data.toList.drop 24 = dktX0_rule_1 := dk_seg dksX0_rule_0 24 rfl rfl
theorem dksX0_rule_2 : cX0_rule.data.toList.drop 48 = dktX0_rule_2 := dk_seg dksX0_rule_1 24 rfl rfl
theorem dksX0_rule_3 : cX0_rule.data.toList.drop 88 = dktX0_rule_3 := dk_seg dksX0_rule_2 40 rfl rfl
theorem dksX0_rule_4 : cX0_rule.data.toList.drop 112 = dktX0_rule_4 := dk_seg dksX0_rule_3 24 rfl rfl
theorem dX0_rule_0 : decode cX0_rule 0 = .ok (.iconst 0, 1) := dk_3 (dk_at dksX0_rule_0 0 rfl rfl)
theorem dX0_rule_1 : decode cX0_rule 1 = .ok (.istore_n 2, 1) := dk_61 (dk_at dksX0_rule_0 1 rfl rfl)
theorem dX0_rule_2 : decode cX0_rule 2 = .ok (.iconst 0, 1) := dk_3 (dk_at dksX0_rule_0 2 rfl rfl)
theorem dX0_rule_3 : decode cX0_rule 3 = .ok (.istore_n 3, 1) := dk_62 (dk_at dksX0_rule_0 3 rfl rfl)
theorem dX0_rule_4 : decode cX0_rule 4 = .ok (.iload_n 3, 1) := dk_29 (dk_at dksX0_rule_0 4 rfl rfl)
theorem dX0_rule_5 : decode cX0_rule 5 = .ok (.aload_n 0, 1) := dk_42 (dk_at dksX0_rule_0 5 rfl rfl)
theorem dX0_rule_6 : decode cX0_rule 6 = .ok (.getfield 110, 3) := dk_180 0 110 (dk_at dksX0_rule_0 6 rfl rfl)
theorem dX0_rule_9 : decode cX0_rule 9 = .ok (.getfield 73, 3) := dk_180 0 73 (dk_at dksX0_rule_0 9 rfl rfl)
theorem dX0_rule_12 : decode cX0_rule 12 = .ok (.if_icmp .ge 35, 3) := dk_162 0 35 (dk_at dksX0_rule_0 12 rfl rfl)
theorem dX0_rule_15 : decode cX0_rule 15 = .ok (.aload_n 0, 1) := dk_42 (dk_at dksX0_rule_0 15 rfl rfl)
theorem dX0_rule_16 : decode cX0_rule 16 = .ok (.aload_n 0, 1) := dk_42 (dk_at dksX0_rule_0 16 rfl rfl)
theorem dX0_rule_17 : decode cX0_rule 17 = .ok (.getfield 110, 3) := dk_180 0 110 (dk_at dksX0_rule_0 17 rfl rfl)
theorem dX0_rule_20 : decode cX0_rule 20 = .ok (.iload_n 3, 1) := dk_29 (dk_at dksX0_rule_0 20 rfl rfl)
theorem dX0_rule_21 : decode cX0_rule 21 = .ok (.invokevirtual 76, 3) := dk_182 0 76 (dk_at dksX0_rule_0 21 rfl rfl)
theorem dX0_rule_24 : decode cX0_rule 24 = .ok (.iload_n 2, 1) := dk_28 (dk_at dksX0_rule_1 0 rfl rfl)
theorem dX0_rule_25 : decode cX0_rule 25 = .ok (.aload_n 0, 1) := dk_42 (dk_at dksX0_rule_1 1 rfl rfl)
theorem dX0_rule_26 : decode cX0_rule 26 = .ok (.getfield 32, 3) := dk_180 0 32 (dk_at dksX0_rule_1 2 rfl rfl)
theorem dX0_rule_29 : decode cX0_rule 29 = .ok (.ifCond .eq 9, 3) := dk_153 0 9 (dk_at dksX0_rule_1 5 rfl rfl)
theorem dX0_rule_32 : decode cX0_rule 32 = .ok (.iconst 1, 1) := dk_4 (dk_at dksX0_rule_1 8 rfl rfl)
theorem dX0_rule_33 : decode cX0_rule 33 = .ok (.iload_n 3, 1) := dk_29 (dk_at dksX0_rule_1 9 rfl rfl)
theorem dX0_rule_34 : decode cX0_rule 34 = .ok (.ishl, 1) := dk_120 (dk_at dksX0_rule_1 10 rfl rfl)
theorem dX0_rule_35 : decode cX0_rule 35 = .ok (.goto 4, 3) := dk_167 0 4 (dk_at dksX0_rule_1 11 rfl rfl)
theorem dX0_rule_38 : decode cX0_rule 38 = .ok (.iconst 0, 1) := dk_3 (dk_at dksX0_rule_1 14 rfl rfl)
theorem dX0_rule_39 : decode cX0_rule 39 = .ok (.ior, 1) := dk_128 (dk_at dksX0_rule_1 15 rfl rfl)
theorem dX0_rule_40 : decode cX0_rule 40 = .ok (.istore_n 2, 1) := dk_61 (dk_at dksX0_rule_1 16 rfl rfl)
theorem dX0_rule_41 : decode cX0_rule 41 = .ok (.iinc 3 1, 3) := dk_132 3 1 (dk_at dksX0_rule_1 17 rfl rfl)
theorem dX0_rule_44 : decode cX0_rule 44 = .ok (.goto (-40), 3) := dk_167 255 216 (dk_at dksX0_rule_1 20 rfl rfl)
theorem dX0_rule_47 : decode cX0_rule 47 = .ok (.iload_n 1, 1) := dk_27 (dk_at dksX0_rule_1 23 rfl rfl)
theorem dX0_rule_48 : decode cX0_rule 48 = .ok (.tableswitch 83 0 5 #[40, 48, 56, 64, 72, 81], 40) := by decide +kernel
theorem dX0_rule_88 : decode cX0_rule 88 = .ok (.aload_n 0, 1) := dk_42 (dk_at dksX0_rule_3 0 rfl rfl)
theorem dX0_rule_89 : decode cX0_rule 89 = .ok (.getfield 110, 3) := dk_180 0 110 (dk_at dksX0_rule_3 1 rfl rfl)
theorem dX0_rule_92 : decode cX0_rule 92 = .ok (.getfield 184, 3) := dk_180 0 184 (dk_at dksX0_rule_3 4 rfl rfl)
theorem dX0_rule_95 : decode cX0_rule 95 = .ok (.ireturn, 1) := dk_172 (dk_at dksX0_rule_3 7 rfl rfl)
theorem dX0_rule_96 : decode cX0_rule 96 = .ok (.aload_n 0, 1) := dk_42 (dk_at dksX0_rule_3 8 rfl rfl)
theorem dX0_rule_97 : decode cX0_rule 97 = .ok (.getfield 110, 3) := dk_180 0 110 (dk_at dksX0_rule_3 9 rfl rfl)
theorem dX0_rule_100 : decode cX0_rule 100 = .ok (.getfield 196, 3) := dk_180 0 196 (dk_at dksX0_rule_3 12 rfl rfl)
theorem dX0_rule_103 : decode cX0_rule 103 = .ok (.ireturn, 1) := dk_172 (dk_at dksX0_rule_3 15 rfl rfl)
theorem dX0_rule_104 : decode cX0_rule 104 = .ok (.aload_n 0, 1) := dk_42 (dk_at dksX0_rule_3 16 rfl rfl)
theorem dX0_rule_105 : decode cX0_rule 105 = .ok (.getfield 110, 3) := dk_180 0 110 (dk_at dksX0_rule_3 17 rfl rfl)
theorem dX0_rule_108 : decode cX0_rule 108 = .ok (.getfield 187, 3) := dk_180 0 187 (dk_at dksX0_rule_3 20 rfl rfl)
theorem dX0_rule_111 : decode cX0_rule 111 = .ok (.ireturn, 1) := dk_172 (dk_at dksX0_rule_3 23 rfl rfl)
theorem dX0_rule_112 : decode cX0_rule 112 = .ok (.aload_n 0, 1) := dk_42 (dk_at dksX0_rule_4 0 rfl rfl)
theorem dX0_rule_113 : decode cX0_rule 113 = .ok (.getfield 110, 3) := dk_180 0 110 (dk_at dksX0_rule_4 1 rfl rfl)
theorem dX0_rule_116 : decode cX0_rule 116 = .ok (.getfield 73, 3) := dk_180 0 73 (dk_at dksX0_rule_4 4 rfl rfl)
theorem dX0_rule_119 : decode cX0_rule 119 = .ok (.ireturn, 1) := dk_172 (dk_at dksX0_rule_4 7 rfl rfl)
theorem dX0_rule_120 : decode cX0_rule 120 = .ok (.aload_n 0, 1) := dk_42 (dk_at dksX0_rule_4 8 rfl rfl)
theorem dX0_rule_121 : decode cX0_rule 121 = .ok (.aload_n 0, 1) := dk_42 (dk_at dksX0_rule_4 9 rfl rfl)
theorem dX0_rule_122 : decode cX0_rule 122 = .ok (.getfield 110, 3) := dk_180 0 110 (dk_at dksX0_rule_4 10 rfl rfl)
theorem dX0_rule_125 : decode cX0_rule 125 = .ok (.invokevirtual 199, 3) := dk_182 0 199 (dk_at dksX0_rule_4 13 rfl rfl)
theorem dX0_rule_128 : decode cX0_rule 128 = .ok (.ireturn, 1) := dk_172 (dk_at dksX0_rule_4 16 rfl rfl)
theorem dX0_rule_129 : decode cX0_rule 129 = .ok (.iload_n 2, 1) := dk_28 (dk_at dksX0_rule_4 17 rfl rfl)
theorem dX0_rule_130 : decode cX0_rule 130 = .ok (.ireturn, 1) := dk_172 (dk_at dksX0_rule_4 18 rfl rfl)
theorem dX0_rule_131 : decode cX0_rule 131 = .ok (.iconst (-1), 1) := dk_2 (dk_at dksX0_rule_4 19 rfl rfl)
theorem dX0_rule_132 : decode cX0_rule 132 = .ok (.ireturn, 1) := dk_172 (dk_at dksX0_rule_4 20 rfl rfl)
abbrev cX0_goes : ByteArray := prog_1_method_5_code
def yX0_goes : MethodName := ⟨RX0, "goes", "(LHedgehogLots$Slope;I)V"⟩
def dkwX0_goes_1 : List UInt8 := [177]
abbrev dktX0_goes_1 : List UInt8 := dkwX0_goes_1 ++ []
def dkwX0_goes_0 : List UInt8 := [42, 43, 43, 180, 0, 63, 5, 28, 104, 51, 43, 180, 0, 63, 5, 28, 104, 4, 96, 51, 3, 182, 0, 66]
abbrev dktX0_goes_0 : List UInt8 := dkwX0_goes_0 ++ dktX0_goes_1
theorem dksX0_goes_0 : cX0_goes.data.toList.drop 0 = dktX0_goes_0 := by decide +kernel
theorem dksX0_goes_1 : cX0_goes.data.toList.drop 24 = dktX0_goes_1 := dk_seg dksX0_goes_0 24 rfl rfl
theorem dX0_goes_0 : decode cX0_goes 0 = .ok (.aload_n 0, 1) := dk_42 (dk_at dksX0_goes_0 0 rfl rfl)
theorem dX0_goes_1 : decode cX0_goes 1 = .ok (.aload_n 1, 1) := dk_43 (dk_at dksX0_goes_0 1 rfl rfl)
theorem dX0_goes_2 : decode cX0_goes 2 = .ok (.aload_n 1, 1) := dk_43 (dk_at dksX0_goes_0 2 rfl rfl)
theorem dX0_goes_3 : decode cX0_goes 3 = .ok (.getfield 63, 3) := dk_180 0 63 (dk_at dksX0_goes_0 3 rfl rfl)
theorem dX0_goes_6 : decode cX0_goes 6 = .ok (.iconst 2, 1) := dk_5 (dk_at dksX0_goes_0 6 rfl rfl)
theorem dX0_goes_7 : decode cX0_goes 7 = .ok (.iload_n 2, 1) := dk_28 (dk_at dksX0_goes_0 7 rfl rfl)
theorem dX0_goes_8 : decode cX0_goes 8 = .ok (.imul, 1) := dk_104 (dk_at dksX0_goes_0 8 rfl rfl)
theorem dX0_goes_9 : decode cX0_goes 9 = .ok (.baload, 1) := dk_51 (dk_at dksX0_goes_0 9 rfl rfl)
theorem dX0_goes_10 : decode cX0_goes 10 = .ok (.aload_n 1, 1) := dk_43 (dk_at dksX0_goes_0 10 rfl rfl)
theorem dX0_goes_11 : decode cX0_goes 11 = .ok (.getfield 63, 3) := dk_180 0 63 (dk_at dksX0_goes_0 11 rfl rfl)
theorem dX0_goes_14 : decode cX0_goes 14 = .ok (.iconst 2, 1) := dk_5 (dk_at dksX0_goes_0 14 rfl rfl)
theorem dX0_goes_15 : decode cX0_goes 15 = .ok (.iload_n 2, 1) := dk_28 (dk_at dksX0_goes_0 15 rfl rfl)
theorem dX0_goes_16 : decode cX0_goes 16 = .ok (.imul, 1) := dk_104 (dk_at dksX0_goes_0 16 rfl rfl)
theorem dX0_goes_17 : decode cX0_goes 17 = .ok (.iconst 1, 1) := dk_4 (dk_at dksX0_goes_0 17 rfl rfl)
theorem dX0_goes_18 : decode cX0_goes 18 = .ok (.iadd, 1) := dk_96 (dk_at dksX0_goes_0 18 rfl rfl)
theorem dX0_goes_19 : decode cX0_goes 19 = .ok (.baload, 1) := dk_51 (dk_at dksX0_goes_0 19 rfl rfl)
theorem dX0_goes_20 : decode cX0_goes 20 = .ok (.iconst 0, 1) := dk_3 (dk_at dksX0_goes_0 20 rfl rfl)
theorem dX0_goes_21 : decode cX0_goes 21 = .ok (.invokevirtual 66, 3) := dk_182 0 66 (dk_at dksX0_goes_0 21 rfl rfl)
theorem dX0_goes_24 : decode cX0_goes 24 = .ok (.return_, 1) := dk_177 (dk_at dksX0_goes_1 0 rfl rfl)
abbrev cX0_runs : ByteArray := prog_1_method_4_code
def yX0_runs : MethodName := ⟨RX0, "runs", "(LHedgehogLots$Slope;III)V"⟩
def dkwX0_runs_12 : List UInt8 := [167, 255, 35, 177]
abbrev dktX0_runs_12 : List UInt8 := dkwX0_runs_12 ++ []
def dkwX0_runs_11 : List UInt8 := [184, 0, 56, 153, 0, 9, 21, 12, 116, 167, 0, 5, 21, 12, 96, 184, 0, 60, 54, 7, 132, 8, 1]
abbrev dktX0_runs_11 : List UInt8 := dkwX0_runs_11 ++ dktX0_runs_12
def dkwX0_runs_10 : List UInt8 := [167, 0, 5, 16, 10, 181, 0, 26, 25, 5, 21, 8, 182, 0, 53, 54, 12, 21, 7, 21, 4, 21, 8]
abbrev dktX0_runs_10 : List UInt8 := dkwX0_runs_10 ++ dktX0_runs_11
def dkwX0_runs_9 : List UInt8 := [21, 6, 157, 0, 8, 21, 11, 167, 0, 5, 16, 252, 181, 0, 22, 42, 21, 6, 157, 0, 8, 21, 8]
abbrev dktX0_runs_9 : List UInt8 := dkwX0_runs_9 ++ dktX0_runs_10
def dkwX0_runs_8 : List UInt8 := [159, 0, 90, 42, 89, 180, 0, 29, 4, 96, 181, 0, 29, 21, 6, 25, 5, 182, 0, 47, 100, 54, 6, 42]
abbrev dktX0_runs_8 : List UInt8 := dkwX0_runs_8 ++ dktX0_runs_9
def dkwX0_runs_7 : List UInt8 := [180, 0, 32, 153, 0, 8, 21, 8, 167, 0, 7, 42, 180, 0, 26, 181, 0, 26, 21, 11, 16, 252]
abbrev dktX0_runs_7 : List UInt8 := dkwX0_runs_7 ++ dktX0_runs_8
def dkwX0_runs_6 : List UInt8 := [21, 10, 182, 0, 43, 153, 0, 7, 4, 167, 0, 4, 3, 128, 181, 0, 32, 42, 21, 9, 154, 0, 15, 42]
abbrev dktX0_runs_6 : List UInt8 := dkwX0_runs_6 ++ dktX0_runs_7
def dkwX0_runs_5 : List UInt8 := [153, 0, 8, 16, 252, 167, 0, 5, 21, 7, 145, 84, 42, 89, 180, 0, 32, 21, 9, 154, 0, 16, 43]
abbrev dktX0_runs_5 : List UInt8 := dkwX0_runs_5 ++ dktX0_runs_6
def dkwX0_runs_4 : List UInt8 := [153, 0, 8, 16, 252, 167, 0, 9, 43, 21, 10, 182, 0, 36, 54, 11, 42, 180, 0, 40, 21, 8, 21, 9]
abbrev dktX0_runs_4 : List UInt8 := dkwX0_runs_4 ++ dktX0_runs_5
def dkwX0_runs_3 : List UInt8 := [162, 0, 7, 4, 167, 0, 4, 3, 54, 9, 16, 10, 21, 8, 104, 21, 7, 96, 54, 10, 21, 9]
abbrev dktX0_runs_3 : List UInt8 := dkwX0_runs_3 ++ dktX0_runs_4
def dkwX0_runs_2 : List UInt8 := [181, 0, 29, 42, 3, 181, 0, 32, 3, 54, 8, 21, 8, 16, 10, 162, 0, 220, 42, 180, 0, 26, 21, 8]
abbrev dktX0_runs_2 : List UInt8 := dkwX0_runs_2 ++ dktX0_runs_3
def dkwX0_runs_1 : List UInt8 := [4, 96, 51, 54, 6, 29, 54, 7, 42, 16, 252, 181, 0, 22, 42, 16, 10, 181, 0, 26, 42, 3]
abbrev dktX0_runs_1 : List UInt8 := dkwX0_runs_1 ++ dktX0_runs_2
def dkwX0_runs_0 : List UInt8 := [42, 180, 0, 12, 43, 180, 0, 16, 5, 28, 104, 3, 96, 51, 50, 58, 5, 43, 180, 0, 16, 5, 28, 104]
abbrev dktX0_runs_0 : List UInt8 := dkwX0_runs_0 ++ dktX0_runs_1
theorem dksX0_runs_0 : cX0_runs.data.toList.drop 0 = dktX0_runs_0 := by decide +kernel
theorem dksX0_runs_1 : cX0_runs.data.toList.drop 24 = dktX0_runs_1 := dk_seg dksX0_runs_0 24 rfl rfl
theorem dksX0_runs_2 : cX0_runs.data.toList.drop 46 = dktX0_runs_2 := dk_seg dksX0_runs_1 22 rfl rfl
theorem dksX0_runs_3 : cX0_runs.data.toList.drop 70 = dktX0_runs_3 := dk_seg dksX0_runs_2 24 rfl rfl
theorem dksX0_runs_4 : cX0_runs.data.toList.drop 92 = dktX0_runs_4 := dk_seg dksX0_runs_3 22 rfl rfl
theorem dksX0_runs_5 : cX0_runs.data.toList.drop 116 = dktX0_runs_5 := dk_seg dksX0_runs_4 24 rfl rfl
theorem dksX0_runs_6 : cX0_runs.data.toList.drop 139 = dktX0_runs_6 := dk_seg dksX0_runs_5 23 rfl rfl
theorem dksX0_runs_7 : cX0_runs.data.toList.drop 163 = dktX0_runs_7 := dk_seg dksX0_runs_6 24 rfl rfl
theorem dksX0_runs_8 : cX0_runs.data.toList.drop 185 = dktX0_runs_8 := dk_seg dksX0_runs_7 22 rfl rfl
theorem dksX0_runs_9 : cX0_runs.data.toList.drop 209 = dktX0_runs_9 := dk_seg dksX0_runs_8 24 rfl rfl
theorem dksX0_runs_10 : cX0_runs.data.toList.drop 232 = dktX0_runs_10 := dk_seg dksX0_runs_9 23 rfl rfl
theorem dksX0_runs_11 : cX0_runs.data.toList.drop 255 = dktX0_runs_11 := dk_seg dksX0_runs_10 23 rfl rfl
theorem dksX0_runs_12 : cX0_runs.data.toList.drop 278 = dktX0_runs_12 := dk_seg dksX0_runs_11 23 rfl rfl
theorem dX0_runs_0 : decode cX0_runs 0 = .ok (.aload_n 0, 1) := dk_42 (dk_at dksX0_runs_0 0 rfl rfl)
theorem dX0_runs_1 : decode cX0_runs 1 = .ok (.getfield 12, 3) := dk_180 0 12 (dk_at dksX0_runs_0 1 rfl rfl)
theorem dX0_runs_4 : decode cX0_runs 4 = .ok (.aload_n 1, 1) := dk_43 (dk_at dksX0_runs_0 4 rfl rfl)
theorem dX0_runs_5 : decode cX0_runs 5 = .ok (.getfield 16, 3) := dk_180 0 16 (dk_at dksX0_runs_0 5 rfl rfl)
theorem dX0_runs_8 : decode cX0_runs 8 = .ok (.iconst 2, 1) := dk_5 (dk_at dksX0_runs_0 8 rfl rfl)
theorem dX0_runs_9 : decode cX0_runs 9 = .ok (.iload_n 2, 1) := dk_28 (dk_at dksX0_runs_0 9 rfl rfl)
theorem dX0_runs_10 : decode cX0_runs 10 = .ok (.imul, 1) := dk_104 (dk_at dksX0_runs_0 10 rfl rfl)
theorem dX0_runs_11 : decode cX0_runs 11 = .ok (.iconst 0, 1) := dk_3 (dk_at dksX0_runs_0 11 rfl rfl)
theorem dX0_runs_12 : decode cX0_runs 12 = .ok (.iadd, 1) := dk_96 (dk_at dksX0_runs_0 12 rfl rfl)
theorem dX0_runs_13 : decode cX0_runs 13 = .ok (.baload, 1) := dk_51 (dk_at dksX0_runs_0 13 rfl rfl)
theorem dX0_runs_14 : decode cX0_runs 14 = .ok (.aaload, 1) := dk_50 (dk_at dksX0_runs_0 14 rfl rfl)
theorem dX0_runs_15 : decode cX0_runs 15 = .ok (.astore 5, 2) := dk_58 5 (dk_at dksX0_runs_0 15 rfl rfl)
theorem dX0_runs_17 : decode cX0_runs 17 = .ok (.aload_n 1, 1) := dk_43 (dk_at dksX0_runs_0 17 rfl rfl)
theorem dX0_runs_18 : decode cX0_runs 18 = .ok (.getfield 16, 3) := dk_180 0 16 (dk_at dksX0_runs_0 18 rfl rfl)
theorem dX0_runs_21 : decode cX0_runs 21 = .ok (.iconst 2, 1) := dk_5 (dk_at dksX0_runs_0 21 rfl rfl)
theorem dX0_runs_22 : decode cX0_runs 22 = .ok (.iload_n 2, 1) := dk_28 (dk_at dksX0_runs_0 22 rfl rfl)
theorem dX0_runs_23 : decode cX0_runs 23 = .ok (.imul, 1) := dk_104 (dk_at dksX0_runs_0 23 rfl rfl)
theorem dX0_runs_24 : decode cX0_runs 24 = .ok (.iconst 1, 1) := dk_4 (dk_at dksX0_runs_1 0 rfl rfl)
theorem dX0_runs_25 : decode cX0_runs 25 = .ok (.iadd, 1) := dk_96 (dk_at dksX0_runs_1 1 rfl rfl)
theorem dX0_runs_26 : decode cX0_runs 26 = .ok (.baload, 1) := dk_51 (dk_at dksX0_runs_1 2 rfl rfl)
theorem dX0_runs_27 : decode cX0_runs 27 = .ok (.istore 6, 2) := dk_54 6 (dk_at dksX0_runs_1 3 rfl rfl)
theorem dX0_runs_29 : decode cX0_runs 29 = .ok (.iload_n 3, 1) := dk_29 (dk_at dksX0_runs_1 5 rfl rfl)
theorem dX0_runs_30 : decode cX0_runs 30 = .ok (.istore 7, 2) := dk_54 7 (dk_at dksX0_runs_1 6 rfl rfl)
theorem dX0_runs_32 : decode cX0_runs 32 = .ok (.aload_n 0, 1) := dk_42 (dk_at dksX0_runs_1 8 rfl rfl)
theorem dX0_runs_33 : decode cX0_runs 33 = .ok (.bipush (-4), 2) := dk_16 252 (dk_at dksX0_runs_1 9 rfl rfl)
theorem dX0_runs_35 : decode cX0_runs 35 = .ok (.putfield 22, 3) := dk_181 0 22 (dk_at dksX0_runs_1 11 rfl rfl)
theorem dX0_runs_38 : decode cX0_runs 38 = .ok (.aload_n 0, 1) := dk_42 (dk_at dksX0_runs_1 14 rfl rfl)
theorem dX0_runs_39 : decode cX0_runs 39 = .ok (.bipush 10, 2) := dk_16 10 (dk_at dksX0_runs_1 15 rfl rfl)
theorem dX0_runs_41 : decode cX0_runs 41 = .ok (.putfield 26, 3) := dk_181 0 26 (dk_at dksX0_runs_1 17 rfl rfl)
theorem dX0_runs_44 : decode cX0_runs 44 = .ok (.aload_n 0, 1) := dk_42 (dk_at dksX0_runs_1 20 rfl rfl)
theorem dX0_runs_45 : decode cX0_runs 45 = .ok (.iconst 0, 1) := dk_3 (dk_at dksX0_runs_1 21 rfl rfl)
theorem dX0_runs_46 : decode cX0_runs 46 = .ok (.putfield 29, 3) := dk_181 0 29 (dk_at dksX0_runs_2 0 rfl rfl)
theorem dX0_runs_49 : decode cX0_runs 49 = .ok (.aload_n 0, 1) := dk_42 (dk_at dksX0_runs_2 3 rfl rfl)
theorem dX0_runs_50 : decode cX0_runs 50 = .ok (.iconst 0, 1) := dk_3 (dk_at dksX0_runs_2 4 rfl rfl)
theorem dX0_runs_51 : decode cX0_runs 51 = .ok (.putfield 32, 3) := dk_181 0 32 (dk_at dksX0_runs_2 5 rfl rfl)
theorem dX0_runs_54 : decode cX0_runs 54 = .ok (.iconst 0, 1) := dk_3 (dk_at dksX0_runs_2 8 rfl rfl)
theorem dX0_runs_55 : decode cX0_runs 55 = .ok (.istore 8, 2) := dk_54 8 (dk_at dksX0_runs_2 9 rfl rfl)
theorem dX0_runs_57 : decode cX0_runs 57 = .ok (.iload 8, 2) := dk_21 8 (dk_at dksX0_runs_2 11 rfl rfl)
theorem dX0_runs_59 : decode cX0_runs 59 = .ok (.bipush 10, 2) := dk_16 10 (dk_at dksX0_runs_2 13 rfl rfl)
theorem dX0_runs_61 : decode cX0_runs 61 = .ok (.if_icmp .ge 220, 3) := dk_162 0 220 (dk_at dksX0_runs_2 15 rfl rfl)
theorem dX0_runs_64 : decode cX0_runs 64 = .ok (.aload_n 0, 1) := dk_42 (dk_at dksX0_runs_2 18 rfl rfl)
theorem dX0_runs_65 : decode cX0_runs 65 = .ok (.getfield 26, 3) := dk_180 0 26 (dk_at dksX0_runs_2 19 rfl rfl)
theorem dX0_runs_68 : decode cX0_runs 68 = .ok (.iload 8, 2) := dk_21 8 (dk_at dksX0_runs_2 22 rfl rfl)
theorem dX0_runs_70 : decode cX0_runs 70 = .ok (.if_icmp .ge 7, 3) := dk_162 0 7 (dk_at dksX0_runs_3 0 rfl rfl)
theorem dX0_runs_73 : decode cX0_runs 73 = .ok (.iconst 1, 1) := dk_4 (dk_at dksX0_runs_3 3 rfl rfl)
theorem dX0_runs_74 : decode cX0_runs 74 = .ok (.goto 4, 3) := dk_167 0 4 (dk_at dksX0_runs_3 4 rfl rfl)
theorem dX0_runs_77 : decode cX0_runs 77 = .ok (.iconst 0, 1) := dk_3 (dk_at dksX0_runs_3 7 rfl rfl)
theorem dX0_runs_78 : decode cX0_runs 78 = .ok (.istore 9, 2) := dk_54 9 (dk_at dksX0_runs_3 8 rfl rfl)
theorem dX0_runs_80 : decode cX0_runs 80 = .ok (.bipush 10, 2) := dk_16 10 (dk_at dksX0_runs_3 10 rfl rfl)
theorem dX0_runs_82 : decode cX0_runs 82 = .ok (.iload 8, 2) := dk_21 8 (dk_at dksX0_runs_3 12 rfl rfl)
theorem dX0_runs_84 : decode cX0_runs 84 = .ok (.imul, 1) := dk_104 (dk_at dksX0_runs_3 14 rfl rfl)
theorem dX0_runs_85 : decode cX0_runs 85 = .ok (.iload 7, 2) := dk_21 7 (dk_at dksX0_runs_3 15 rfl rfl)
theorem dX0_runs_87 : decode cX0_runs 87 = .ok (.iadd, 1) := dk_96 (dk_at dksX0_runs_3 17 rfl rfl)
theorem dX0_runs_88 : decode cX0_runs 88 = .ok (.istore 10, 2) := dk_54 10 (dk_at dksX0_runs_3 18 rfl rfl)
theorem dX0_runs_90 : decode cX0_runs 90 = .ok (.iload 9, 2) := dk_21 9 (dk_at dksX0_runs_3 20 rfl rfl)
theorem dX0_runs_92 : decode cX0_runs 92 = .ok (.ifCond .eq 8, 3) := dk_153 0 8 (dk_at dksX0_runs_4 0 rfl rfl)
theorem dX0_runs_95 : decode cX0_runs 95 = .ok (.bipush (-4), 2) := dk_16 252 (dk_at dksX0_runs_4 3 rfl rfl)
theorem dX0_runs_97 : decode cX0_runs 97 = .ok (.goto 9, 3) := dk_167 0 9 (dk_at dksX0_runs_4 5 rfl rfl)
theorem dX0_runs_100 : decode cX0_runs 100 = .ok (.aload_n 1, 1) := dk_43 (dk_at dksX0_runs_4 8 rfl rfl)
theorem dX0_runs_101 : decode cX0_runs 101 = .ok (.iload 10, 2) := dk_21 10 (dk_at dksX0_runs_4 9 rfl rfl)
theorem dX0_runs_103 : decode cX0_runs 103 = .ok (.invokevirtual 36, 3) := dk_182 0 36 (dk_at dksX0_runs_4 11 rfl rfl)
theorem dX0_runs_106 : decode cX0_runs 106 = .ok (.istore 11, 2) := dk_54 11 (dk_at dksX0_runs_4 14 rfl rfl)
theorem dX0_runs_108 : decode cX0_runs 108 = .ok (.aload_n 0, 1) := dk_42 (dk_at dksX0_runs_4 16 rfl rfl)
theorem dX0_runs_109 : decode cX0_runs 109 = .ok (.getfield 40, 3) := dk_180 0 40 (dk_at dksX0_runs_4 17 rfl rfl)
theorem dX0_runs_112 : decode cX0_runs 112 = .ok (.iload 8, 2) := dk_21 8 (dk_at dksX0_runs_4 20 rfl rfl)
theorem dX0_runs_114 : decode cX0_runs 114 = .ok (.iload 9, 2) := dk_21 9 (dk_at dksX0_runs_4 22 rfl rfl)
theorem dX0_runs_116 : decode cX0_runs 116 = .ok (.ifCond .eq 8, 3) := dk_153 0 8 (dk_at dksX0_runs_5 0 rfl rfl)
theorem dX0_runs_119 : decode cX0_runs 119 = .ok (.bipush (-4), 2) := dk_16 252 (dk_at dksX0_runs_5 3 rfl rfl)
theorem dX0_runs_121 : decode cX0_runs 121 = .ok (.goto 5, 3) := dk_167 0 5 (dk_at dksX0_runs_5 5 rfl rfl)
theorem dX0_runs_124 : decode cX0_runs 124 = .ok (.iload 7, 2) := dk_21 7 (dk_at dksX0_runs_5 8 rfl rfl)
theorem dX0_runs_126 : decode cX0_runs 126 = .ok (.i2b, 1) := dk_145 (dk_at dksX0_runs_5 10 rfl rfl)
theorem dX0_runs_127 : decode cX0_runs 127 = .ok (.bastore, 1) := dk_84 (dk_at dksX0_runs_5 11 rfl rfl)
theorem dX0_runs_128 : decode cX0_runs 128 = .ok (.aload_n 0, 1) := dk_42 (dk_at dksX0_runs_5 12 rfl rfl)
theorem dX0_runs_129 : decode cX0_runs 129 = .ok (.dup, 1) := dk_89 (dk_at dksX0_runs_5 13 rfl rfl)
theorem dX0_runs_130 : decode cX0_runs 130 = .ok (.getfield 32, 3) := dk_180 0 32 (dk_at dksX0_runs_5 14 rfl rfl)
theorem dX0_runs_133 : decode cX0_runs 133 = .ok (.iload 9, 2) := dk_21 9 (dk_at dksX0_runs_5 17 rfl rfl)
theorem dX0_runs_135 : decode cX0_runs 135 = .ok (.ifCond .ne 16, 3) := dk_154 0 16 (dk_at dksX0_runs_5 19 rfl rfl)
theorem dX0_runs_138 : decode cX0_runs 138 = .ok (.aload_n 1, 1) := dk_43 (dk_at dksX0_runs_5 22 rfl rfl)
theorem dX0_runs_139 : decode cX0_runs 139 = .ok (.iload 10, 2) := dk_21 10 (dk_at dksX0_runs_6 0 rfl rfl)
theorem dX0_runs_141 : decode cX0_runs 141 = .ok (.invokevirtual 43, 3) := dk_182 0 43 (dk_at dksX0_runs_6 2 rfl rfl)
theorem dX0_runs_144 : decode cX0_runs 144 = .ok (.ifCond .eq 7, 3) := dk_153 0 7 (dk_at dksX0_runs_6 5 rfl rfl)
theorem dX0_runs_147 : decode cX0_runs 147 = .ok (.iconst 1, 1) := dk_4 (dk_at dksX0_runs_6 8 rfl rfl)
theorem dX0_runs_148 : decode cX0_runs 148 = .ok (.goto 4, 3) := dk_167 0 4 (dk_at dksX0_runs_6 9 rfl rfl)
theorem dX0_runs_151 : decode cX0_runs 151 = .ok (.iconst 0, 1) := dk_3 (dk_at dksX0_runs_6 12 rfl rfl)
theorem dX0_runs_152 : decode cX0_runs 152 = .ok (.ior, 1) := dk_128 (dk_at dksX0_runs_6 13 rfl rfl)
theorem dX0_runs_153 : decode cX0_runs 153 = .ok (.putfield 32, 3) := dk_181 0 32 (dk_at dksX0_runs_6 14 rfl rfl)
theorem dX0_runs_156 : decode cX0_runs 156 = .ok (.aload_n 0, 1) := dk_42 (dk_at dksX0_runs_6 17 rfl rfl)
theorem dX0_runs_157 : decode cX0_runs 157 = .ok (.iload 9, 2) := dk_21 9 (dk_at dksX0_runs_6 18 rfl rfl)
theorem dX0_runs_159 : decode cX0_runs 159 = .ok (.ifCond .ne 15, 3) := dk_154 0 15 (dk_at dksX0_runs_6 20 rfl rfl)
theorem dX0_runs_162 : decode cX0_runs 162 = .ok (.aload_n 0, 1) := dk_42 (dk_at dksX0_runs_6 23 rfl rfl)
theorem dX0_runs_163 : decode cX0_runs 163 = .ok (.getfield 32, 3) := dk_180 0 32 (dk_at dksX0_runs_7 0 rfl rfl)
theorem dX0_runs_166 : decode cX0_runs 166 = .ok (.ifCond .eq 8, 3) := dk_153 0 8 (dk_at dksX0_runs_7 3 rfl rfl)
theorem dX0_runs_169 : decode cX0_runs 169 = .ok (.iload 8, 2) := dk_21 8 (dk_at dksX0_runs_7 6 rfl rfl)
theorem dX0_runs_171 : decode cX0_runs 171 = .ok (.goto 7, 3) := dk_167 0 7 (dk_at dksX0_runs_7 8 rfl rfl)
theorem dX0_runs_174 : decode cX0_runs 174 = .ok (.aload_n 0, 1) := dk_42 (dk_at dksX0_runs_7 11 rfl rfl)
theorem dX0_runs_175 : decode cX0_runs 175 = .ok (.getfield 26, 3) := dk_180 0 26 (dk_at dksX0_runs_7 12 rfl rfl)
theorem dX0_runs_178 : decode cX0_runs 178 = .ok (.putfield 26, 3) := dk_181 0 26 (dk_at dksX0_runs_7 15 rfl rfl)
theorem dX0_runs_181 : decode cX0_runs 181 = .ok (.iload 11, 2) := dk_21 11 (dk_at dksX0_runs_7 18 rfl rfl)
theorem dX0_runs_183 : decode cX0_runs 183 = .ok (.bipush (-4), 2) := dk_16 252 (dk_at dksX0_runs_7 20 rfl rfl)
theorem dX0_runs_185 : decode cX0_runs 185 = .ok (.if_icmp .eq 90, 3) := dk_159 0 90 (dk_at dksX0_runs_8 0 rfl rfl)
theorem dX0_runs_188 : decode cX0_runs 188 = .ok (.aload_n 0, 1) := dk_42 (dk_at dksX0_runs_8 3 rfl rfl)
theorem dX0_runs_189 : decode cX0_runs 189 = .ok (.dup, 1) := dk_89 (dk_at dksX0_runs_8 4 rfl rfl)
theorem dX0_runs_190 : decode cX0_runs 190 = .ok (.getfield 29, 3) := dk_180 0 29 (dk_at dksX0_runs_8 5 rfl rfl)
theorem dX0_runs_193 : decode cX0_runs 193 = .ok (.iconst 1, 1) := dk_4 (dk_at dksX0_runs_8 8 rfl rfl)
theorem dX0_runs_194 : decode cX0_runs 194 = .ok (.iadd, 1) := dk_96 (dk_at dksX0_runs_8 9 rfl rfl)
theorem dX0_runs_195 : decode cX0_runs 195 = .ok (.putfield 29, 3) := dk_181 0 29 (dk_at dksX0_runs_8 10 rfl rfl)
theorem dX0_runs_198 : decode cX0_runs 198 = .ok (.iload 6, 2) := dk_21 6 (dk_at dksX0_runs_8 13 rfl rfl)
theorem dX0_runs_200 : decode cX0_runs 200 = .ok (.aload 5, 2) := dk_25 5 (dk_at dksX0_runs_8 15 rfl rfl)
theorem dX0_runs_202 : decode cX0_runs 202 = .ok (.invokevirtual 47, 3) := dk_182 0 47 (dk_at dksX0_runs_8 17 rfl rfl)
theorem dX0_runs_205 : decode cX0_runs 205 = .ok (.isub, 1) := dk_100 (dk_at dksX0_runs_8 20 rfl rfl)
theorem dX0_runs_206 : decode cX0_runs 206 = .ok (.istore 6, 2) := dk_54 6 (dk_at dksX0_runs_8 21 rfl rfl)
theorem dX0_runs_208 : decode cX0_runs 208 = .ok (.aload_n 0, 1) := dk_42 (dk_at dksX0_runs_8 23 rfl rfl)
theorem dX0_runs_209 : decode cX0_runs 209 = .ok (.iload 6, 2) := dk_21 6 (dk_at dksX0_runs_9 0 rfl rfl)
theorem dX0_runs_211 : decode cX0_runs 211 = .ok (.ifCond .gt 8, 3) := dk_157 0 8 (dk_at dksX0_runs_9 2 rfl rfl)
theorem dX0_runs_214 : decode cX0_runs 214 = .ok (.iload 11, 2) := dk_21 11 (dk_at dksX0_runs_9 5 rfl rfl)
theorem dX0_runs_216 : decode cX0_runs 216 = .ok (.goto 5, 3) := dk_167 0 5 (dk_at dksX0_runs_9 7 rfl rfl)
theorem dX0_runs_219 : decode cX0_runs 219 = .ok (.bipush (-4), 2) := dk_16 252 (dk_at dksX0_runs_9 10 rfl rfl)
theorem dX0_runs_221 : decode cX0_runs 221 = .ok (.putfield 22, 3) := dk_181 0 22 (dk_at dksX0_runs_9 12 rfl rfl)
theorem dX0_runs_224 : decode cX0_runs 224 = .ok (.aload_n 0, 1) := dk_42 (dk_at dksX0_runs_9 15 rfl rfl)
theorem dX0_runs_225 : decode cX0_runs 225 = .ok (.iload 6, 2) := dk_21 6 (dk_at dksX0_runs_9 16 rfl rfl)
theorem dX0_runs_227 : decode cX0_runs 227 = .ok (.ifCond .gt 8, 3) := dk_157 0 8 (dk_at dksX0_runs_9 18 rfl rfl)
theorem dX0_runs_230 : decode cX0_runs 230 = .ok (.iload 8, 2) := dk_21 8 (dk_at dksX0_runs_9 21 rfl rfl)
theorem dX0_runs_232 : decode cX0_runs 232 = .ok (.goto 5, 3) := dk_167 0 5 (dk_at dksX0_runs_10 0 rfl rfl)
theorem dX0_runs_235 : decode cX0_runs 235 = .ok (.bipush 10, 2) := dk_16 10 (dk_at dksX0_runs_10 3 rfl rfl)
theorem dX0_runs_237 : decode cX0_runs 237 = .ok (.putfield 26, 3) := dk_181 0 26 (dk_at dksX0_runs_10 5 rfl rfl)
theorem dX0_runs_240 : decode cX0_runs 240 = .ok (.aload 5, 2) := dk_25 5 (dk_at dksX0_runs_10 8 rfl rfl)
theorem dX0_runs_242 : decode cX0_runs 242 = .ok (.iload 8, 2) := dk_21 8 (dk_at dksX0_runs_10 10 rfl rfl)
theorem dX0_runs_244 : decode cX0_runs 244 = .ok (.invokevirtual 53, 3) := dk_182 0 53 (dk_at dksX0_runs_10 12 rfl rfl)
theorem dX0_runs_247 : decode cX0_runs 247 = .ok (.istore 12, 2) := dk_54 12 (dk_at dksX0_runs_10 15 rfl rfl)
theorem dX0_runs_249 : decode cX0_runs 249 = .ok (.iload 7, 2) := dk_21 7 (dk_at dksX0_runs_10 17 rfl rfl)
theorem dX0_runs_251 : decode cX0_runs 251 = .ok (.iload 4, 2) := dk_21 4 (dk_at dksX0_runs_10 19 rfl rfl)
theorem dX0_runs_253 : decode cX0_runs 253 = .ok (.iload 8, 2) := dk_21 8 (dk_at dksX0_runs_10 21 rfl rfl)
theorem dX0_runs_255 : decode cX0_runs 255 = .ok (.invokestatic 56, 3) := dk_184 0 56 (dk_at dksX0_runs_11 0 rfl rfl)
theorem dX0_runs_258 : decode cX0_runs 258 = .ok (.ifCond .eq 9, 3) := dk_153 0 9 (dk_at dksX0_runs_11 3 rfl rfl)
theorem dX0_runs_261 : decode cX0_runs 261 = .ok (.iload 12, 2) := dk_21 12 (dk_at dksX0_runs_11 6 rfl rfl)
theorem dX0_runs_263 : decode cX0_runs 263 = .ok (.ineg, 1) := dk_116 (dk_at dksX0_runs_11 8 rfl rfl)
theorem dX0_runs_264 : decode cX0_runs 264 = .ok (.goto 5, 3) := dk_167 0 5 (dk_at dksX0_runs_11 9 rfl rfl)
theorem dX0_runs_267 : decode cX0_runs 267 = .ok (.iload 12, 2) := dk_21 12 (dk_at dksX0_runs_11 12 rfl rfl)
theorem dX0_runs_269 : decode cX0_runs 269 = .ok (.iadd, 1) := dk_96 (dk_at dksX0_runs_11 14 rfl rfl)
theorem dX0_runs_270 : decode cX0_runs 270 = .ok (.invokestatic 60, 3) := dk_184 0 60 (dk_at dksX0_runs_11 15 rfl rfl)
theorem dX0_runs_273 : decode cX0_runs 273 = .ok (.istore 7, 2) := dk_54 7 (dk_at dksX0_runs_11 18 rfl rfl)
theorem dX0_runs_275 : decode cX0_runs 275 = .ok (.iinc 8 1, 3) := dk_132 8 1 (dk_at dksX0_runs_11 20 rfl rfl)
theorem dX0_runs_278 : decode cX0_runs 278 = .ok (.goto (-221), 3) := dk_167 255 35 (dk_at dksX0_runs_12 0 rfl rfl)
theorem dX0_runs_281 : decode cX0_runs 281 = .ok (.return_, 1) := dk_177 (dk_at dksX0_runs_12 3 rfl rfl)
abbrev cX0_has : ByteArray := prog_1_method_2_code
def yX0_has : MethodName := ⟨RX0, "has", "(II)Z"⟩
def dkwX0_has_0 : List UInt8 := [26, 27, 122, 4, 126, 4, 160, 0, 7, 4, 167, 0, 4, 3, 172]
abbrev dktX0_has_0 : List UInt8 := dkwX0_has_0 ++ []
theorem dksX0_has_0 : cX0_has.data.toList.drop 0 = dktX0_has_0 := by decide +kernel
theorem dX0_has_0 : decode cX0_has 0 = .ok (.iload_n 0, 1) := dk_26 (dk_at dksX0_has_0 0 rfl rfl)
theorem dX0_has_1 : decode cX0_has 1 = .ok (.iload_n 1, 1) := dk_27 (dk_at dksX0_has_0 1 rfl rfl)
theorem dX0_has_2 : decode cX0_has 2 = .ok (.ishr, 1) := dk_122 (dk_at dksX0_has_0 2 rfl rfl)
theorem dX0_has_3 : decode cX0_has 3 = .ok (.iconst 1, 1) := dk_4 (dk_at dksX0_has_0 3 rfl rfl)
theorem dX0_has_4 : decode cX0_has 4 = .ok (.iand, 1) := dk_126 (dk_at dksX0_has_0 4 rfl rfl)
theorem dX0_has_5 : decode cX0_has 5 = .ok (.iconst 1, 1) := dk_4 (dk_at dksX0_has_0 5 rfl rfl)
theorem dX0_has_6 : decode cX0_has 6 = .ok (.if_icmp .ne 7, 3) := dk_160 0 7 (dk_at dksX0_has_0 6 rfl rfl)
theorem dX0_has_9 : decode cX0_has 9 = .ok (.iconst 1, 1) := dk_4 (dk_at dksX0_has_0 9 rfl rfl)
theorem dX0_has_10 : decode cX0_has 10 = .ok (.goto 4, 3) := dk_167 0 4 (dk_at dksX0_has_0 10 rfl rfl)
theorem dX0_has_13 : decode cX0_has 13 = .ok (.iconst 0, 1) := dk_3 (dk_at dksX0_has_0 13 rfl rfl)
theorem dX0_has_14 : decode cX0_has 14 = .ok (.ireturn, 1) := dk_172 (dk_at dksX0_has_0 14 rfl rfl)
abbrev cX0_onSlope : ByteArray := prog_1_method_3_code
def yX0_onSlope : MethodName := ⟨RX0, "onSlope", "(I)I"⟩
def dkwX0_onSlope_0 : List UInt8 := [3, 16, 7, 26, 184, 0, 3, 184, 0, 9, 172]
abbrev dktX0_onSlope_0 : List UInt8 := dkwX0_onSlope_0 ++ []
theorem dksX0_onSlope_0 : cX0_onSlope.data.toList.drop 0 = dktX0_onSlope_0 := by decide +kernel
theorem dX0_onSlope_0 : decode cX0_onSlope 0 = .ok (.iconst 0, 1) := dk_3 (dk_at dksX0_onSlope_0 0 rfl rfl)
theorem dX0_onSlope_1 : decode cX0_onSlope 1 = .ok (.bipush 7, 2) := dk_16 7 (dk_at dksX0_onSlope_0 1 rfl rfl)
theorem dX0_onSlope_3 : decode cX0_onSlope 3 = .ok (.iload_n 0, 1) := dk_26 (dk_at dksX0_onSlope_0 3 rfl rfl)
theorem dX0_onSlope_4 : decode cX0_onSlope 4 = .ok (.invokestatic 3, 3) := dk_184 0 3 (dk_at dksX0_onSlope_0 4 rfl rfl)
theorem dX0_onSlope_7 : decode cX0_onSlope 7 = .ok (.invokestatic 9, 3) := dk_184 0 9 (dk_at dksX0_onSlope_0 7 rfl rfl)
theorem dX0_onSlope_10 : decode cX0_onSlope 10 = .ok (.ireturn, 1) := dk_172 (dk_at dksX0_onSlope_0 10 rfl rfl)
abbrev cX0_wonByAny : ByteArray := prog_1_method_9_code
def yX0_wonByAny : MethodName := ⟨RX0, "wonByAny", "(LHedgehogLots$Slope;)I"⟩
def dkwX0_wonByAny_1 : List UInt8 := [28, 172]
abbrev dktX0_wonByAny_1 : List UInt8 := dkwX0_wonByAny_1 ++ []
def dkwX0_wonByAny_0 : List UInt8 := [3, 61, 3, 62, 29, 7, 162, 0, 18, 28, 42, 43, 29, 182, 0, 84, 128, 61, 132, 3, 1, 167, 255, 239]
abbrev dktX0_wonByAny_0 : List UInt8 := dkwX0_wonByAny_0 ++ dktX0_wonByAny_1
theorem dksX0_wonByAny_0 : cX0_wonByAny.data.toList.drop 0 = dktX0_wonByAny_0 := by decide +kernel
theorem dksX0_wonByAny_1 : cX0_wonByAny.data.toList.drop 24 = dktX0_wonByAny_1 := dk_seg dksX0_wonByAny_0 24 rfl rfl
theorem dX0_wonByAny_0 : decode cX0_wonByAny 0 = .ok (.iconst 0, 1) := dk_3 (dk_at dksX0_wonByAny_0 0 rfl rfl)
theorem dX0_wonByAny_1 : decode cX0_wonByAny 1 = .ok (.istore_n 2, 1) := dk_61 (dk_at dksX0_wonByAny_0 1 rfl rfl)
theorem dX0_wonByAny_2 : decode cX0_wonByAny 2 = .ok (.iconst 0, 1) := dk_3 (dk_at dksX0_wonByAny_0 2 rfl rfl)
theorem dX0_wonByAny_3 : decode cX0_wonByAny 3 = .ok (.istore_n 3, 1) := dk_62 (dk_at dksX0_wonByAny_0 3 rfl rfl)
theorem dX0_wonByAny_4 : decode cX0_wonByAny 4 = .ok (.iload_n 3, 1) := dk_29 (dk_at dksX0_wonByAny_0 4 rfl rfl)
theorem dX0_wonByAny_5 : decode cX0_wonByAny 5 = .ok (.iconst 4, 1) := dk_7 (dk_at dksX0_wonByAny_0 5 rfl rfl)
theorem dX0_wonByAny_6 : decode cX0_wonByAny 6 = .ok (.if_icmp .ge 18, 3) := dk_162 0 18 (dk_at dksX0_wonByAny_0 6 rfl rfl)
theorem dX0_wonByAny_9 : decode cX0_wonByAny 9 = .ok (.iload_n 2, 1) := dk_28 (dk_at dksX0_wonByAny_0 9 rfl rfl)
theorem dX0_wonByAny_10 : decode cX0_wonByAny 10 = .ok (.aload_n 0, 1) := dk_42 (dk_at dksX0_wonByAny_0 10 rfl rfl)
theorem dX0_wonByAny_11 : decode cX0_wonByAny 11 = .ok (.aload_n 1, 1) := dk_43 (dk_at dksX0_wonByAny_0 11 rfl rfl)
theorem dX0_wonByAny_12 : decode cX0_wonByAny 12 = .ok (.iload_n 3, 1) := dk_29 (dk_at dksX0_wonByAny_0 12 rfl rfl)
theorem dX0_wonByAny_13 : decode cX0_wonByAny 13 = .ok (.invokevirtual 84, 3) := dk_182 0 84 (dk_at dksX0_wonByAny_0 13 rfl rfl)
theorem dX0_wonByAny_16 : decode cX0_wonByAny 16 = .ok (.ior, 1) := dk_128 (dk_at dksX0_wonByAny_0 16 rfl rfl)
theorem dX0_wonByAny_17 : decode cX0_wonByAny 17 = .ok (.istore_n 2, 1) := dk_61 (dk_at dksX0_wonByAny_0 17 rfl rfl)
theorem dX0_wonByAny_18 : decode cX0_wonByAny 18 = .ok (.iinc 3 1, 3) := dk_132 3 1 (dk_at dksX0_wonByAny_0 18 rfl rfl)
theorem dX0_wonByAny_21 : decode cX0_wonByAny 21 = .ok (.goto (-17), 3) := dk_167 255 239 (dk_at dksX0_wonByAny_0 21 rfl rfl)
theorem dX0_wonByAny_24 : decode cX0_wonByAny 24 = .ok (.iload_n 2, 1) := dk_28 (dk_at dksX0_wonByAny_1 0 rfl rfl)
theorem dX0_wonByAny_25 : decode cX0_wonByAny 25 = .ok (.ireturn, 1) := dk_172 (dk_at dksX0_wonByAny_1 1 rfl rfl)
abbrev cX0_won : ByteArray := prog_1_method_7_code
def yX0_won : MethodName := ⟨RX0, "won", "(LHedgehogLots$Slope;I)I"⟩
def dkwX0_won_2 : List UInt8 := [172]
abbrev dktX0_won_2 : List UInt8 := dkwX0_won_2 ++ []
def dkwX0_won_1 : List UInt8 := [182, 0, 80, 28, 160, 0, 10, 4, 21, 4, 120, 167, 0, 4, 3, 128, 62, 132, 4, 1, 167, 255, 217, 29]
abbrev dktX0_won_1 : List UInt8 := dkwX0_won_1 ++ dktX0_won_2
def dkwX0_won_0 : List UInt8 := [3, 62, 3, 54, 4, 21, 4, 43, 180, 0, 73, 162, 0, 36, 42, 43, 21, 4, 182, 0, 76, 29, 42, 43]
abbrev dktX0_won_0 : List UInt8 := dkwX0_won_0 ++ dktX0_won_1
theorem dksX0_won_0 : cX0_won.data.toList.drop 0 = dktX0_won_0 := by decide +kernel
theorem dksX0_won_1 : cX0_won.data.toList.drop 24 = dktX0_won_1 := dk_seg dksX0_won_0 24 rfl rfl
theorem dksX0_won_2 : cX0_won.data.toList.drop 48 = dktX0_won_2 := dk_seg dksX0_won_1 24 rfl rfl
theorem dX0_won_0 : decode cX0_won 0 = .ok (.iconst 0, 1) := dk_3 (dk_at dksX0_won_0 0 rfl rfl)
theorem dX0_won_1 : decode cX0_won 1 = .ok (.istore_n 3, 1) := dk_62 (dk_at dksX0_won_0 1 rfl rfl)
theorem dX0_won_2 : decode cX0_won 2 = .ok (.iconst 0, 1) := dk_3 (dk_at dksX0_won_0 2 rfl rfl)
theorem dX0_won_3 : decode cX0_won 3 = .ok (.istore 4, 2) := dk_54 4 (dk_at dksX0_won_0 3 rfl rfl)
theorem dX0_won_5 : decode cX0_won 5 = .ok (.iload 4, 2) := dk_21 4 (dk_at dksX0_won_0 5 rfl rfl)
theorem dX0_won_7 : decode cX0_won 7 = .ok (.aload_n 1, 1) := dk_43 (dk_at dksX0_won_0 7 rfl rfl)
theorem dX0_won_8 : decode cX0_won 8 = .ok (.getfield 73, 3) := dk_180 0 73 (dk_at dksX0_won_0 8 rfl rfl)
theorem dX0_won_11 : decode cX0_won 11 = .ok (.if_icmp .ge 36, 3) := dk_162 0 36 (dk_at dksX0_won_0 11 rfl rfl)
theorem dX0_won_14 : decode cX0_won 14 = .ok (.aload_n 0, 1) := dk_42 (dk_at dksX0_won_0 14 rfl rfl)
theorem dX0_won_15 : decode cX0_won 15 = .ok (.aload_n 1, 1) := dk_43 (dk_at dksX0_won_0 15 rfl rfl)
theorem dX0_won_16 : decode cX0_won 16 = .ok (.iload 4, 2) := dk_21 4 (dk_at dksX0_won_0 16 rfl rfl)
theorem dX0_won_18 : decode cX0_won 18 = .ok (.invokevirtual 76, 3) := dk_182 0 76 (dk_at dksX0_won_0 18 rfl rfl)
theorem dX0_won_21 : decode cX0_won 21 = .ok (.iload_n 3, 1) := dk_29 (dk_at dksX0_won_0 21 rfl rfl)
theorem dX0_won_22 : decode cX0_won 22 = .ok (.aload_n 0, 1) := dk_42 (dk_at dksX0_won_0 22 rfl rfl)
theorem dX0_won_23 : decode cX0_won 23 = .ok (.aload_n 1, 1) := dk_43 (dk_at dksX0_won_0 23 rfl rfl)
theorem dX0_won_24 : decode cX0_won 24 = .ok (.invokevirtual 80, 3) := dk_182 0 80 (dk_at dksX0_won_1 0 rfl rfl)
theorem dX0_won_27 : decode cX0_won 27 = .ok (.iload_n 2, 1) := dk_28 (dk_at dksX0_won_1 3 rfl rfl)
theorem dX0_won_28 : decode cX0_won 28 = .ok (.if_icmp .ne 10, 3) := dk_160 0 10 (dk_at dksX0_won_1 4 rfl rfl)
theorem dX0_won_31 : decode cX0_won 31 = .ok (.iconst 1, 1) := dk_4 (dk_at dksX0_won_1 7 rfl rfl)
theorem dX0_won_32 : decode cX0_won 32 = .ok (.iload 4, 2) := dk_21 4 (dk_at dksX0_won_1 8 rfl rfl)
theorem dX0_won_34 : decode cX0_won 34 = .ok (.ishl, 1) := dk_120 (dk_at dksX0_won_1 10 rfl rfl)
theorem dX0_won_35 : decode cX0_won 35 = .ok (.goto 4, 3) := dk_167 0 4 (dk_at dksX0_won_1 11 rfl rfl)
theorem dX0_won_38 : decode cX0_won 38 = .ok (.iconst 0, 1) := dk_3 (dk_at dksX0_won_1 14 rfl rfl)
theorem dX0_won_39 : decode cX0_won 39 = .ok (.ior, 1) := dk_128 (dk_at dksX0_won_1 15 rfl rfl)
theorem dX0_won_40 : decode cX0_won 40 = .ok (.istore_n 3, 1) := dk_62 (dk_at dksX0_won_1 16 rfl rfl)
theorem dX0_won_41 : decode cX0_won 41 = .ok (.iinc 4 1, 3) := dk_132 4 1 (dk_at dksX0_won_1 17 rfl rfl)
theorem dX0_won_44 : decode cX0_won 44 = .ok (.goto (-39), 3) := dk_167 255 217 (dk_at dksX0_won_1 20 rfl rfl)
theorem dX0_won_47 : decode cX0_won 47 = .ok (.iload_n 3, 1) := dk_29 (dk_at dksX0_won_1 23 rfl rfl)
theorem dX0_won_48 : decode cX0_won 48 = .ok (.ireturn, 1) := dk_172 (dk_at dksX0_won_2 0 rfl rfl)
abbrev cX0_winner : ByteArray := prog_1_method_6_code
def yX0_winner : MethodName := ⟨RX0, "winner", "(LHedgehogLots$Slope;)I"⟩
def dkwX0_winner_0 : List UInt8 := [42, 180, 0, 22, 16, 252, 160, 0, 8, 16, 252, 167, 0, 12, 43, 180, 0, 70, 42, 180, 0, 22, 51, 172]
abbrev dktX0_winner_0 : List UInt8 := dkwX0_winner_0 ++ []
theorem dksX0_winner_0 : cX0_winner.data.toList.drop 0 = dktX0_winner_0 := by decide +kernel
theorem dX0_winner_0 : decode cX0_winner 0 = .ok (.aload_n 0, 1) := dk_42 (dk_at dksX0_winner_0 0 rfl rfl)
theorem dX0_winner_1 : decode cX0_winner 1 = .ok (.getfield 22, 3) := dk_180 0 22 (dk_at dksX0_winner_0 1 rfl rfl)
theorem dX0_winner_4 : decode cX0_winner 4 = .ok (.bipush (-4), 2) := dk_16 252 (dk_at dksX0_winner_0 4 rfl rfl)
theorem dX0_winner_6 : decode cX0_winner 6 = .ok (.if_icmp .ne 8, 3) := dk_160 0 8 (dk_at dksX0_winner_0 6 rfl rfl)
theorem dX0_winner_9 : decode cX0_winner 9 = .ok (.bipush (-4), 2) := dk_16 252 (dk_at dksX0_winner_0 9 rfl rfl)
theorem dX0_winner_11 : decode cX0_winner 11 = .ok (.goto 12, 3) := dk_167 0 12 (dk_at dksX0_winner_0 11 rfl rfl)
theorem dX0_winner_14 : decode cX0_winner 14 = .ok (.aload_n 1, 1) := dk_43 (dk_at dksX0_winner_0 14 rfl rfl)
theorem dX0_winner_15 : decode cX0_winner 15 = .ok (.getfield 70, 3) := dk_180 0 70 (dk_at dksX0_winner_0 15 rfl rfl)
theorem dX0_winner_18 : decode cX0_winner 18 = .ok (.aload_n 0, 1) := dk_42 (dk_at dksX0_winner_0 18 rfl rfl)
theorem dX0_winner_19 : decode cX0_winner 19 = .ok (.getfield 22, 3) := dk_180 0 22 (dk_at dksX0_winner_0 19 rfl rfl)
theorem dX0_winner_22 : decode cX0_winner 22 = .ok (.baload, 1) := dk_51 (dk_at dksX0_winner_0 22 rfl rfl)
theorem dX0_winner_23 : decode cX0_winner 23 = .ok (.ireturn, 1) := dk_172 (dk_at dksX0_winner_0 23 rfl rfl)
abbrev cX0_peg : ByteArray := prog_1_method_23_code
def yX0_peg : MethodName := ⟨RX0, "peg", "(II)I"⟩
def dkwX0_peg_4 : List UInt8 := [160, 0, 15, 42, 180, 0, 110, 180, 0, 70, 27, 51, 167, 0, 4, 29, 172]
abbrev dktX0_peg_4 : List UInt8 := dkwX0_peg_4 ++ []
def dkwX0_peg_3 : List UInt8 := [132, 4, 1, 167, 255, 212, 28, 154, 0, 15, 42, 180, 0, 110, 180, 0, 207, 27, 51, 167, 0, 21, 28, 4]
abbrev dktX0_peg_3 : List UInt8 := dkwX0_peg_3 ++ dktX0_peg_4
def dkwX0_peg_2 : List UInt8 := [182, 0, 76, 29, 42, 180, 0, 22, 27, 160, 0, 10, 4, 21, 4, 120, 167, 0, 4, 3, 128, 62]
abbrev dktX0_peg_2 : List UInt8 := dkwX0_peg_2 ++ dktX0_peg_3
def dkwX0_peg_1 : List UInt8 := [3, 54, 4, 21, 4, 42, 180, 0, 110, 180, 0, 73, 162, 0, 38, 42, 42, 180, 0, 110, 21, 4]
abbrev dktX0_peg_1 : List UInt8 := dkwX0_peg_1 ++ dktX0_peg_2
def dkwX0_peg_0 : List UInt8 := [42, 27, 182, 0, 202, 153, 0, 15, 28, 133, 9, 20, 0, 205, 184, 0, 139, 154, 0, 5, 2, 172, 3, 62]
abbrev dktX0_peg_0 : List UInt8 := dkwX0_peg_0 ++ dktX0_peg_1
theorem dksX0_peg_0 : cX0_peg.data.toList.drop 0 = dktX0_peg_0 := by decide +kernel
theorem dksX0_peg_1 : cX0_peg.data.toList.drop 24 = dktX0_peg_1 := dk_seg dksX0_peg_0 24 rfl rfl
theorem dksX0_peg_2 : cX0_peg.data.toList.drop 46 = dktX0_peg_2 := dk_seg dksX0_peg_1 22 rfl rfl
theorem dksX0_peg_3 : cX0_peg.data.toList.drop 68 = dktX0_peg_3 := dk_seg dksX0_peg_2 22 rfl rfl
theorem dksX0_peg_4 : cX0_peg.data.toList.drop 92 = dktX0_peg_4 := dk_seg dksX0_peg_3 24 rfl rfl
theorem dX0_peg_0 : decode cX0_peg 0 = .ok (.aload_n 0, 1) := dk_42 (dk_at dksX0_peg_0 0 rfl rfl)
theorem dX0_peg_1 : decode cX0_peg 1 = .ok (.iload_n 1, 1) := dk_27 (dk_at dksX0_peg_0 1 rfl rfl)
theorem dX0_peg_2 : decode cX0_peg 2 = .ok (.invokevirtual 202, 3) := dk_182 0 202 (dk_at dksX0_peg_0 2 rfl rfl)
theorem dX0_peg_5 : decode cX0_peg 5 = .ok (.ifCond .eq 15, 3) := dk_153 0 15 (dk_at dksX0_peg_0 5 rfl rfl)
theorem dX0_peg_8 : decode cX0_peg 8 = .ok (.iload_n 2, 1) := dk_28 (dk_at dksX0_peg_0 8 rfl rfl)
theorem dX0_peg_9 : decode cX0_peg 9 = .ok (.i2l, 1) := dk_133 (dk_at dksX0_peg_0 9 rfl rfl)
theorem dX0_peg_10 : decode cX0_peg 10 = .ok (.lconst 0, 1) := dk_9 (dk_at dksX0_peg_0 10 rfl rfl)
theorem dX0_peg_11 : decode cX0_peg 11 = .ok (.ldc2_w 205, 3) := dk_20 0 205 (dk_at dksX0_peg_0 11 rfl rfl)
theorem dX0_peg_14 : decode cX0_peg 14 = .ok (.invokestatic 139, 3) := dk_184 0 139 (dk_at dksX0_peg_0 14 rfl rfl)
theorem dX0_peg_17 : decode cX0_peg 17 = .ok (.ifCond .ne 5, 3) := dk_154 0 5 (dk_at dksX0_peg_0 17 rfl rfl)
theorem dX0_peg_20 : decode cX0_peg 20 = .ok (.iconst (-1), 1) := dk_2 (dk_at dksX0_peg_0 20 rfl rfl)
theorem dX0_peg_21 : decode cX0_peg 21 = .ok (.ireturn, 1) := dk_172 (dk_at dksX0_peg_0 21 rfl rfl)
theorem dX0_peg_22 : decode cX0_peg 22 = .ok (.iconst 0, 1) := dk_3 (dk_at dksX0_peg_0 22 rfl rfl)
theorem dX0_peg_23 : decode cX0_peg 23 = .ok (.istore_n 3, 1) := dk_62 (dk_at dksX0_peg_0 23 rfl rfl)
theorem dX0_peg_24 : decode cX0_peg 24 = .ok (.iconst 0, 1) := dk_3 (dk_at dksX0_peg_1 0 rfl rfl)
theorem dX0_peg_25 : decode cX0_peg 25 = .ok (.istore 4, 2) := dk_54 4 (dk_at dksX0_peg_1 1 rfl rfl)
theorem dX0_peg_27 : decode cX0_peg 27 = .ok (.iload 4, 2) := dk_21 4 (dk_at dksX0_peg_1 3 rfl rfl)
theorem dX0_peg_29 : decode cX0_peg 29 = .ok (.aload_n 0, 1) := dk_42 (dk_at dksX0_peg_1 5 rfl rfl)
theorem dX0_peg_30 : decode cX0_peg 30 = .ok (.getfield 110, 3) := dk_180 0 110 (dk_at dksX0_peg_1 6 rfl rfl)
theorem dX0_peg_33 : decode cX0_peg 33 = .ok (.getfield 73, 3) := dk_180 0 73 (dk_at dksX0_peg_1 9 rfl rfl)
theorem dX0_peg_36 : decode cX0_peg 36 = .ok (.if_icmp .ge 38, 3) := dk_162 0 38 (dk_at dksX0_peg_1 12 rfl rfl)
theorem dX0_peg_39 : decode cX0_peg 39 = .ok (.aload_n 0, 1) := dk_42 (dk_at dksX0_peg_1 15 rfl rfl)
theorem dX0_peg_40 : decode cX0_peg 40 = .ok (.aload_n 0, 1) := dk_42 (dk_at dksX0_peg_1 16 rfl rfl)
theorem dX0_peg_41 : decode cX0_peg 41 = .ok (.getfield 110, 3) := dk_180 0 110 (dk_at dksX0_peg_1 17 rfl rfl)
theorem dX0_peg_44 : decode cX0_peg 44 = .ok (.iload 4, 2) := dk_21 4 (dk_at dksX0_peg_1 20 rfl rfl)
theorem dX0_peg_46 : decode cX0_peg 46 = .ok (.invokevirtual 76, 3) := dk_182 0 76 (dk_at dksX0_peg_2 0 rfl rfl)
theorem dX0_peg_49 : decode cX0_peg 49 = .ok (.iload_n 3, 1) := dk_29 (dk_at dksX0_peg_2 3 rfl rfl)
theorem dX0_peg_50 : decode cX0_peg 50 = .ok (.aload_n 0, 1) := dk_42 (dk_at dksX0_peg_2 4 rfl rfl)
theorem dX0_peg_51 : decode cX0_peg 51 = .ok (.getfield 22, 3) := dk_180 0 22 (dk_at dksX0_peg_2 5 rfl rfl)
theorem dX0_peg_54 : decode cX0_peg 54 = .ok (.iload_n 1, 1) := dk_27 (dk_at dksX0_peg_2 8 rfl rfl)
theorem dX0_peg_55 : decode cX0_peg 55 = .ok (.if_icmp .ne 10, 3) := dk_160 0 10 (dk_at dksX0_peg_2 9 rfl rfl)
theorem dX0_peg_58 : decode cX0_peg 58 = .ok (.iconst 1, 1) := dk_4 (dk_at dksX0_peg_2 12 rfl rfl)
theorem dX0_peg_59 : decode cX0_peg 59 = .ok (.iload 4, 2) := dk_21 4 (dk_at dksX0_peg_2 13 rfl rfl)
theorem dX0_peg_61 : decode cX0_peg 61 = .ok (.ishl, 1) := dk_120 (dk_at dksX0_peg_2 15 rfl rfl)
theorem dX0_peg_62 : decode cX0_peg 62 = .ok (.goto 4, 3) := dk_167 0 4 (dk_at dksX0_peg_2 16 rfl rfl)
theorem dX0_peg_65 : decode cX0_peg 65 = .ok (.iconst 0, 1) := dk_3 (dk_at dksX0_peg_2 19 rfl rfl)
theorem dX0_peg_66 : decode cX0_peg 66 = .ok (.ior, 1) := dk_128 (dk_at dksX0_peg_2 20 rfl rfl)
theorem dX0_peg_67 : decode cX0_peg 67 = .ok (.istore_n 3, 1) := dk_62 (dk_at dksX0_peg_2 21 rfl rfl)
theorem dX0_peg_68 : decode cX0_peg 68 = .ok (.iinc 4 1, 3) := dk_132 4 1 (dk_at dksX0_peg_3 0 rfl rfl)
theorem dX0_peg_71 : decode cX0_peg 71 = .ok (.goto (-44), 3) := dk_167 255 212 (dk_at dksX0_peg_3 3 rfl rfl)
theorem dX0_peg_74 : decode cX0_peg 74 = .ok (.iload_n 2, 1) := dk_28 (dk_at dksX0_peg_3 6 rfl rfl)
theorem dX0_peg_75 : decode cX0_peg 75 = .ok (.ifCond .ne 15, 3) := dk_154 0 15 (dk_at dksX0_peg_3 7 rfl rfl)
theorem dX0_peg_78 : decode cX0_peg 78 = .ok (.aload_n 0, 1) := dk_42 (dk_at dksX0_peg_3 10 rfl rfl)
theorem dX0_peg_79 : decode cX0_peg 79 = .ok (.getfield 110, 3) := dk_180 0 110 (dk_at dksX0_peg_3 11 rfl rfl)
theorem dX0_peg_82 : decode cX0_peg 82 = .ok (.getfield 207, 3) := dk_180 0 207 (dk_at dksX0_peg_3 14 rfl rfl)
theorem dX0_peg_85 : decode cX0_peg 85 = .ok (.iload_n 1, 1) := dk_27 (dk_at dksX0_peg_3 17 rfl rfl)
theorem dX0_peg_86 : decode cX0_peg 86 = .ok (.baload, 1) := dk_51 (dk_at dksX0_peg_3 18 rfl rfl)
theorem dX0_peg_87 : decode cX0_peg 87 = .ok (.goto 21, 3) := dk_167 0 21 (dk_at dksX0_peg_3 19 rfl rfl)
theorem dX0_peg_90 : decode cX0_peg 90 = .ok (.iload_n 2, 1) := dk_28 (dk_at dksX0_peg_3 22 rfl rfl)
theorem dX0_peg_91 : decode cX0_peg 91 = .ok (.iconst 1, 1) := dk_4 (dk_at dksX0_peg_3 23 rfl rfl)
theorem dX0_peg_92 : decode cX0_peg 92 = .ok (.if_icmp .ne 15, 3) := dk_160 0 15 (dk_at dksX0_peg_4 0 rfl rfl)
theorem dX0_peg_95 : decode cX0_peg 95 = .ok (.aload_n 0, 1) := dk_42 (dk_at dksX0_peg_4 3 rfl rfl)
theorem dX0_peg_96 : decode cX0_peg 96 = .ok (.getfield 110, 3) := dk_180 0 110 (dk_at dksX0_peg_4 4 rfl rfl)
theorem dX0_peg_99 : decode cX0_peg 99 = .ok (.getfield 70, 3) := dk_180 0 70 (dk_at dksX0_peg_4 7 rfl rfl)
theorem dX0_peg_102 : decode cX0_peg 102 = .ok (.iload_n 1, 1) := dk_27 (dk_at dksX0_peg_4 10 rfl rfl)
theorem dX0_peg_103 : decode cX0_peg 103 = .ok (.baload, 1) := dk_51 (dk_at dksX0_peg_4 11 rfl rfl)
theorem dX0_peg_104 : decode cX0_peg 104 = .ok (.goto 4, 3) := dk_167 0 4 (dk_at dksX0_peg_4 12 rfl rfl)
theorem dX0_peg_107 : decode cX0_peg 107 = .ok (.iload_n 3, 1) := dk_29 (dk_at dksX0_peg_4 15 rfl rfl)
theorem dX0_peg_108 : decode cX0_peg 108 = .ok (.ireturn, 1) := dk_172 (dk_at dksX0_peg_4 16 rfl rfl)
abbrev cX0_isPeg : ByteArray := prog_1_method_18_code
def yX0_isPeg : MethodName := ⟨RX0, "isPeg", "(I)Z"⟩
def dkwX0_isPeg_0 : List UInt8 := [27, 133, 9, 42, 180, 0, 110, 180, 0, 184, 4, 100, 133, 184, 0, 139, 172]
abbrev dktX0_isPeg_0 : List UInt8 := dkwX0_isPeg_0 ++ []
theorem dksX0_isPeg_0 : cX0_isPeg.data.toList.drop 0 = dktX0_isPeg_0 := by decide +kernel
theorem dX0_isPeg_0 : decode cX0_isPeg 0 = .ok (.iload_n 1, 1) := dk_27 (dk_at dksX0_isPeg_0 0 rfl rfl)
theorem dX0_isPeg_1 : decode cX0_isPeg 1 = .ok (.i2l, 1) := dk_133 (dk_at dksX0_isPeg_0 1 rfl rfl)
theorem dX0_isPeg_2 : decode cX0_isPeg 2 = .ok (.lconst 0, 1) := dk_9 (dk_at dksX0_isPeg_0 2 rfl rfl)
theorem dX0_isPeg_3 : decode cX0_isPeg 3 = .ok (.aload_n 0, 1) := dk_42 (dk_at dksX0_isPeg_0 3 rfl rfl)
theorem dX0_isPeg_4 : decode cX0_isPeg 4 = .ok (.getfield 110, 3) := dk_180 0 110 (dk_at dksX0_isPeg_0 4 rfl rfl)
theorem dX0_isPeg_7 : decode cX0_isPeg 7 = .ok (.getfield 184, 3) := dk_180 0 184 (dk_at dksX0_isPeg_0 7 rfl rfl)
theorem dX0_isPeg_10 : decode cX0_isPeg 10 = .ok (.iconst 1, 1) := dk_4 (dk_at dksX0_isPeg_0 10 rfl rfl)
theorem dX0_isPeg_11 : decode cX0_isPeg 11 = .ok (.isub, 1) := dk_100 (dk_at dksX0_isPeg_0 11 rfl rfl)
theorem dX0_isPeg_12 : decode cX0_isPeg 12 = .ok (.i2l, 1) := dk_133 (dk_at dksX0_isPeg_0 12 rfl rfl)
theorem dX0_isPeg_13 : decode cX0_isPeg 13 = .ok (.invokestatic 139, 3) := dk_184 0 139 (dk_at dksX0_isPeg_0 13 rfl rfl)
theorem dX0_isPeg_16 : decode cX0_isPeg 16 = .ok (.ireturn, 1) := dk_172 (dk_at dksX0_isPeg_0 16 rfl rfl)
abbrev cX0_slug : ByteArray := prog_1_method_24_code
def yX0_slug : MethodName := ⟨RX0, "slug", "(I)I"⟩
def dkwX0_slug_1 : List UInt8 := [180, 0, 210, 27, 51, 167, 0, 4, 2, 172]
abbrev dktX0_slug_1 : List UInt8 := dkwX0_slug_1 ++ []
def dkwX0_slug_0 : List UInt8 := [27, 133, 9, 42, 180, 0, 110, 180, 0, 196, 4, 100, 133, 184, 0, 139, 153, 0, 15, 42, 180, 0, 110]
abbrev dktX0_slug_0 : List UInt8 := dkwX0_slug_0 ++ dktX0_slug_1
theorem dksX0_slug_0 : cX0_slug.data.toList.drop 0 = dktX0_slug_0 := by decide +kernel
theorem dksX0_slug_1 : cX0_slug.data.toList.drop 23 = dktX0_slug_1 := dk_seg dksX0_slug_0 23 rfl rfl
theorem dX0_slug_0 : decode cX0_slug 0 = .ok (.iload_n 1, 1) := dk_27 (dk_at dksX0_slug_0 0 rfl rfl)
theorem dX0_slug_1 : decode cX0_slug 1 = .ok (.i2l, 1) := dk_133 (dk_at dksX0_slug_0 1 rfl rfl)
theorem dX0_slug_2 : decode cX0_slug 2 = .ok (.lconst 0, 1) := dk_9 (dk_at dksX0_slug_0 2 rfl rfl)
theorem dX0_slug_3 : decode cX0_slug 3 = .ok (.aload_n 0, 1) := dk_42 (dk_at dksX0_slug_0 3 rfl rfl)
theorem dX0_slug_4 : decode cX0_slug 4 = .ok (.getfield 110, 3) := dk_180 0 110 (dk_at dksX0_slug_0 4 rfl rfl)
theorem dX0_slug_7 : decode cX0_slug 7 = .ok (.getfield 196, 3) := dk_180 0 196 (dk_at dksX0_slug_0 7 rfl rfl)
theorem dX0_slug_10 : decode cX0_slug 10 = .ok (.iconst 1, 1) := dk_4 (dk_at dksX0_slug_0 10 rfl rfl)
theorem dX0_slug_11 : decode cX0_slug 11 = .ok (.isub, 1) := dk_100 (dk_at dksX0_slug_0 11 rfl rfl)
theorem dX0_slug_12 : decode cX0_slug 12 = .ok (.i2l, 1) := dk_133 (dk_at dksX0_slug_0 12 rfl rfl)
theorem dX0_slug_13 : decode cX0_slug 13 = .ok (.invokestatic 139, 3) := dk_184 0 139 (dk_at dksX0_slug_0 13 rfl rfl)
theorem dX0_slug_16 : decode cX0_slug 16 = .ok (.ifCond .eq 15, 3) := dk_153 0 15 (dk_at dksX0_slug_0 16 rfl rfl)
theorem dX0_slug_19 : decode cX0_slug 19 = .ok (.aload_n 0, 1) := dk_42 (dk_at dksX0_slug_0 19 rfl rfl)
theorem dX0_slug_20 : decode cX0_slug 20 = .ok (.getfield 110, 3) := dk_180 0 110 (dk_at dksX0_slug_0 20 rfl rfl)
theorem dX0_slug_23 : decode cX0_slug 23 = .ok (.getfield 210, 3) := dk_180 0 210 (dk_at dksX0_slug_1 0 rfl rfl)
theorem dX0_slug_26 : decode cX0_slug 26 = .ok (.iload_n 1, 1) := dk_27 (dk_at dksX0_slug_1 3 rfl rfl)
theorem dX0_slug_27 : decode cX0_slug 27 = .ok (.baload, 1) := dk_51 (dk_at dksX0_slug_1 4 rfl rfl)
theorem dX0_slug_28 : decode cX0_slug 28 = .ok (.goto 4, 3) := dk_167 0 4 (dk_at dksX0_slug_1 5 rfl rfl)
theorem dX0_slug_31 : decode cX0_slug 31 = .ok (.iconst (-1), 1) := dk_2 (dk_at dksX0_slug_1 8 rfl rfl)
theorem dX0_slug_32 : decode cX0_slug 32 = .ok (.ireturn, 1) := dk_172 (dk_at dksX0_slug_1 9 rfl rfl)
abbrev cX0_hedgehog : ByteArray := prog_1_method_25_code
def yX0_hedgehog : MethodName := ⟨RX0, "hedgehog", "(II)I"⟩
def dkwX0_hedgehog_5 : List UInt8 := [167, 0, 4, 29, 172]
abbrev dktX0_hedgehog_5 : List UInt8 := dkwX0_hedgehog_5 ++ []
def dkwX0_hedgehog_4 : List UInt8 := [160, 0, 27, 42, 180, 0, 12, 42, 180, 0, 110, 180, 0, 16, 5, 27, 104, 3, 96, 51, 50, 182, 0, 47]
abbrev dktX0_hedgehog_4 : List UInt8 := dkwX0_hedgehog_4 ++ dktX0_hedgehog_5
def dkwX0_hedgehog_3 : List UInt8 := [28, 5, 162, 0, 19, 42, 180, 0, 110, 180, 0, 16, 5, 27, 104, 28, 96, 51, 167, 0, 33, 28, 5]
abbrev dktX0_hedgehog_3 : List UInt8 := dkwX0_hedgehog_3 ++ dktX0_hedgehog_4
def dkwX0_hedgehog_2 : List UInt8 := [180, 0, 22, 16, 252, 160, 0, 7, 3, 167, 0, 7, 4, 21, 4, 120, 128, 62, 132, 4, 1, 167, 255, 214]
abbrev dktX0_hedgehog_2 : List UInt8 := dkwX0_hedgehog_2 ++ dktX0_hedgehog_3
def dkwX0_hedgehog_1 : List UInt8 := [3, 54, 4, 21, 4, 16, 8, 162, 0, 41, 42, 42, 180, 0, 110, 27, 21, 4, 3, 182, 0, 66, 29, 42]
abbrev dktX0_hedgehog_1 : List UInt8 := dkwX0_hedgehog_1 ++ dktX0_hedgehog_2
def dkwX0_hedgehog_0 : List UInt8 := [42, 27, 182, 0, 190, 153, 0, 15, 28, 133, 9, 20, 0, 182, 184, 0, 139, 154, 0, 5, 2, 172, 3, 62]
abbrev dktX0_hedgehog_0 : List UInt8 := dkwX0_hedgehog_0 ++ dktX0_hedgehog_1
theorem dksX0_hedgehog_0 : cX0_hedgehog.data.toList.drop 0 = dktX0_hedgehog_0 := by decide +kernel
theorem dksX0_hedgehog_1 : cX0_hedgehog.data.toList.drop 24 = dktX0_hedgehog_1 := dk_seg dksX0_hedgehog_0 24 rfl rfl
theorem dksX0_hedgehog_2 : cX0_hedgehog.data.toList.drop 48 = dktX0_hedgehog_2 := dk_seg dksX0_hedgehog_1 24 rfl rfl
theorem dksX0_hedgehog_3 : cX0_hedgehog.data.toList.drop 72 = dktX0_hedgehog_3 := dk_seg dksX0_hedgehog_2 24 rfl rfl
theorem dksX0_hedgehog_4 : cX0_hedgehog.data.toList.drop 95 = dktX0_hedgehog_4 := dk_seg dksX0_hedgehog_3 23 rfl rfl
theorem dksX0_hedgehog_5 : cX0_hedgehog.data.toList.drop 119 = dktX0_hedgehog_5 := dk_seg dksX0_hedgehog_4 24 rfl rfl
theorem dX0_hedgehog_0 : decode cX0_hedgehog 0 = .ok (.aload_n 0, 1) := dk_42 (dk_at dksX0_hedgehog_0 0 rfl rfl)
theorem dX0_hedgehog_1 : decode cX0_hedgehog 1 = .ok (.iload_n 1, 1) := dk_27 (dk_at dksX0_hedgehog_0 1 rfl rfl)
theorem dX0_hedgehog_2 : decode cX0_hedgehog 2 = .ok (.invokevirtual 190, 3) := dk_182 0 190 (dk_at dksX0_hedgehog_0 2 rfl rfl)
theorem dX0_hedgehog_5 : decode cX0_hedgehog 5 = .ok (.ifCond .eq 15, 3) := dk_153 0 15 (dk_at dksX0_hedgehog_0 5 rfl rfl)
theorem dX0_hedgehog_8 : decode cX0_hedgehog 8 = .ok (.iload_n 2, 1) := dk_28 (dk_at dksX0_hedgehog_0 8 rfl rfl)
theorem dX0_hedgehog_9 : decode cX0_hedgehog 9 = .ok (.i2l, 1) := dk_133 (dk_at dksX0_hedgehog_0 9 rfl rfl)
theorem dX0_hedgehog_10 : decode cX0_hedgehog 10 = .ok (.lconst 0, 1) := dk_9 (dk_at dksX0_hedgehog_0 10 rfl rfl)
theorem dX0_hedgehog_11 : decode cX0_hedgehog 11 = .ok (.ldc2_w 182, 3) := dk_20 0 182 (dk_at dksX0_hedgehog_0 11 rfl rfl)
theorem dX0_hedgehog_14 : decode cX0_hedgehog 14 = .ok (.invokestatic 139, 3) := dk_184 0 139 (dk_at dksX0_hedgehog_0 14 rfl rfl)
theorem dX0_hedgehog_17 : decode cX0_hedgehog 17 = .ok (.ifCond .ne 5, 3) := dk_154 0 5 (dk_at dksX0_hedgehog_0 17 rfl rfl)
theorem dX0_hedgehog_20 : decode cX0_hedgehog 20 = .ok (.iconst (-1), 1) := dk_2 (dk_at dksX0_hedgehog_0 20 rfl rfl)
theorem dX0_hedgehog_21 : decode cX0_hedgehog 21 = .ok (.ireturn, 1) := dk_172 (dk_at dksX0_hedgehog_0 21 rfl rfl)
theorem dX0_hedgehog_22 : decode cX0_hedgehog 22 = .ok (.iconst 0, 1) := dk_3 (dk_at dksX0_hedgehog_0 22 rfl rfl)
theorem dX0_hedgehog_23 : decode cX0_hedgehog 23 = .ok (.istore_n 3, 1) := dk_62 (dk_at dksX0_hedgehog_0 23 rfl rfl)
theorem dX0_hedgehog_24 : decode cX0_hedgehog 24 = .ok (.iconst 0, 1) := dk_3 (dk_at dksX0_hedgehog_1 0 rfl rfl)
theorem dX0_hedgehog_25 : decode cX0_hedgehog 25 = .ok (.istore 4, 2) := dk_54 4 (dk_at dksX0_hedgehog_1 1 rfl rfl)
theorem dX0_hedgehog_27 : decode cX0_hedgehog 27 = .ok (.iload 4, 2) := dk_21 4 (dk_at dksX0_hedgehog_1 3 rfl rfl)
theorem dX0_hedgehog_29 : decode cX0_hedgehog 29 = .ok (.bipush 8, 2) := dk_16 8 (dk_at dksX0_hedgehog_1 5 rfl rfl)
theorem dX0_hedgehog_31 : decode cX0_hedgehog 31 = .ok (.if_icmp .ge 41, 3) := dk_162 0 41 (dk_at dksX0_hedgehog_1 7 rfl rfl)
theorem dX0_hedgehog_34 : decode cX0_hedgehog 34 = .ok (.aload_n 0, 1) := dk_42 (dk_at dksX0_hedgehog_1 10 rfl rfl)
theorem dX0_hedgehog_35 : decode cX0_hedgehog 35 = .ok (.aload_n 0, 1) := dk_42 (dk_at dksX0_hedgehog_1 11 rfl rfl)
theorem dX0_hedgehog_36 : decode cX0_hedgehog 36 = .ok (.getfield 110, 3) := dk_180 0 110 (dk_at dksX0_hedgehog_1 12 rfl rfl)
theorem dX0_hedgehog_39 : decode cX0_hedgehog 39 = .ok (.iload_n 1, 1) := dk_27 (dk_at dksX0_hedgehog_1 15 rfl rfl)
theorem dX0_hedgehog_40 : decode cX0_hedgehog 40 = .ok (.iload 4, 2) := dk_21 4 (dk_at dksX0_hedgehog_1 16 rfl rfl)
theorem dX0_hedgehog_42 : decode cX0_hedgehog 42 = .ok (.iconst 0, 1) := dk_3 (dk_at dksX0_hedgehog_1 18 rfl rfl)
theorem dX0_hedgehog_43 : decode cX0_hedgehog 43 = .ok (.invokevirtual 66, 3) := dk_182 0 66 (dk_at dksX0_hedgehog_1 19 rfl rfl)
theorem dX0_hedgehog_46 : decode cX0_hedgehog 46 = .ok (.iload_n 3, 1) := dk_29 (dk_at dksX0_hedgehog_1 22 rfl rfl)
theorem dX0_hedgehog_47 : decode cX0_hedgehog 47 = .ok (.aload_n 0, 1) := dk_42 (dk_at dksX0_hedgehog_1 23 rfl rfl)
theorem dX0_hedgehog_48 : decode cX0_hedgehog 48 = .ok (.getfield 22, 3) := dk_180 0 22 (dk_at dksX0_hedgehog_2 0 rfl rfl)
theorem dX0_hedgehog_51 : decode cX0_hedgehog 51 = .ok (.bipush (-4), 2) := dk_16 252 (dk_at dksX0_hedgehog_2 3 rfl rfl)
theorem dX0_hedgehog_53 : decode cX0_hedgehog 53 = .ok (.if_icmp .ne 7, 3) := dk_160 0 7 (dk_at dksX0_hedgehog_2 5 rfl rfl)
theorem dX0_hedgehog_56 : decode cX0_hedgehog 56 = .ok (.iconst 0, 1) := dk_3 (dk_at dksX0_hedgehog_2 8 rfl rfl)
theorem dX0_hedgehog_57 : decode cX0_hedgehog 57 = .ok (.goto 7, 3) := dk_167 0 7 (dk_at dksX0_hedgehog_2 9 rfl rfl)
theorem dX0_hedgehog_60 : decode cX0_hedgehog 60 = .ok (.iconst 1, 1) := dk_4 (dk_at dksX0_hedgehog_2 12 rfl rfl)
theorem dX0_hedgehog_61 : decode cX0_hedgehog 61 = .ok (.iload 4, 2) := dk_21 4 (dk_at dksX0_hedgehog_2 13 rfl rfl)
theorem dX0_hedgehog_63 : decode cX0_hedgehog 63 = .ok (.ishl, 1) := dk_120 (dk_at dksX0_hedgehog_2 15 rfl rfl)
theorem dX0_hedgehog_64 : decode cX0_hedgehog 64 = .ok (.ior, 1) := dk_128 (dk_at dksX0_hedgehog_2 16 rfl rfl)
theorem dX0_hedgehog_65 : decode cX0_hedgehog 65 = .ok (.istore_n 3, 1) := dk_62 (dk_at dksX0_hedgehog_2 17 rfl rfl)
theorem dX0_hedgehog_66 : decode cX0_hedgehog 66 = .ok (.iinc 4 1, 3) := dk_132 4 1 (dk_at dksX0_hedgehog_2 18 rfl rfl)
theorem dX0_hedgehog_69 : decode cX0_hedgehog 69 = .ok (.goto (-42), 3) := dk_167 255 214 (dk_at dksX0_hedgehog_2 21 rfl rfl)
theorem dX0_hedgehog_72 : decode cX0_hedgehog 72 = .ok (.iload_n 2, 1) := dk_28 (dk_at dksX0_hedgehog_3 0 rfl rfl)
theorem dX0_hedgehog_73 : decode cX0_hedgehog 73 = .ok (.iconst 2, 1) := dk_5 (dk_at dksX0_hedgehog_3 1 rfl rfl)
theorem dX0_hedgehog_74 : decode cX0_hedgehog 74 = .ok (.if_icmp .ge 19, 3) := dk_162 0 19 (dk_at dksX0_hedgehog_3 2 rfl rfl)
theorem dX0_hedgehog_77 : decode cX0_hedgehog 77 = .ok (.aload_n 0, 1) := dk_42 (dk_at dksX0_hedgehog_3 5 rfl rfl)
theorem dX0_hedgehog_78 : decode cX0_hedgehog 78 = .ok (.getfield 110, 3) := dk_180 0 110 (dk_at dksX0_hedgehog_3 6 rfl rfl)
theorem dX0_hedgehog_81 : decode cX0_hedgehog 81 = .ok (.getfield 16, 3) := dk_180 0 16 (dk_at dksX0_hedgehog_3 9 rfl rfl)
theorem dX0_hedgehog_84 : decode cX0_hedgehog 84 = .ok (.iconst 2, 1) := dk_5 (dk_at dksX0_hedgehog_3 12 rfl rfl)
theorem dX0_hedgehog_85 : decode cX0_hedgehog 85 = .ok (.iload_n 1, 1) := dk_27 (dk_at dksX0_hedgehog_3 13 rfl rfl)
theorem dX0_hedgehog_86 : decode cX0_hedgehog 86 = .ok (.imul, 1) := dk_104 (dk_at dksX0_hedgehog_3 14 rfl rfl)
theorem dX0_hedgehog_87 : decode cX0_hedgehog 87 = .ok (.iload_n 2, 1) := dk_28 (dk_at dksX0_hedgehog_3 15 rfl rfl)
theorem dX0_hedgehog_88 : decode cX0_hedgehog 88 = .ok (.iadd, 1) := dk_96 (dk_at dksX0_hedgehog_3 16 rfl rfl)
theorem dX0_hedgehog_89 : decode cX0_hedgehog 89 = .ok (.baload, 1) := dk_51 (dk_at dksX0_hedgehog_3 17 rfl rfl)
theorem dX0_hedgehog_90 : decode cX0_hedgehog 90 = .ok (.goto 33, 3) := dk_167 0 33 (dk_at dksX0_hedgehog_3 18 rfl rfl)
theorem dX0_hedgehog_93 : decode cX0_hedgehog 93 = .ok (.iload_n 2, 1) := dk_28 (dk_at dksX0_hedgehog_3 21 rfl rfl)
theorem dX0_hedgehog_94 : decode cX0_hedgehog 94 = .ok (.iconst 2, 1) := dk_5 (dk_at dksX0_hedgehog_3 22 rfl rfl)
theorem dX0_hedgehog_95 : decode cX0_hedgehog 95 = .ok (.if_icmp .ne 27, 3) := dk_160 0 27 (dk_at dksX0_hedgehog_4 0 rfl rfl)
theorem dX0_hedgehog_98 : decode cX0_hedgehog 98 = .ok (.aload_n 0, 1) := dk_42 (dk_at dksX0_hedgehog_4 3 rfl rfl)
theorem dX0_hedgehog_99 : decode cX0_hedgehog 99 = .ok (.getfield 12, 3) := dk_180 0 12 (dk_at dksX0_hedgehog_4 4 rfl rfl)
theorem dX0_hedgehog_102 : decode cX0_hedgehog 102 = .ok (.aload_n 0, 1) := dk_42 (dk_at dksX0_hedgehog_4 7 rfl rfl)
theorem dX0_hedgehog_103 : decode cX0_hedgehog 103 = .ok (.getfield 110, 3) := dk_180 0 110 (dk_at dksX0_hedgehog_4 8 rfl rfl)
theorem dX0_hedgehog_106 : decode cX0_hedgehog 106 = .ok (.getfield 16, 3) := dk_180 0 16 (dk_at dksX0_hedgehog_4 11 rfl rfl)
theorem dX0_hedgehog_109 : decode cX0_hedgehog 109 = .ok (.iconst 2, 1) := dk_5 (dk_at dksX0_hedgehog_4 14 rfl rfl)
theorem dX0_hedgehog_110 : decode cX0_hedgehog 110 = .ok (.iload_n 1, 1) := dk_27 (dk_at dksX0_hedgehog_4 15 rfl rfl)
theorem dX0_hedgehog_111 : decode cX0_hedgehog 111 = .ok (.imul, 1) := dk_104 (dk_at dksX0_hedgehog_4 16 rfl rfl)
theorem dX0_hedgehog_112 : decode cX0_hedgehog 112 = .ok (.iconst 0, 1) := dk_3 (dk_at dksX0_hedgehog_4 17 rfl rfl)
theorem dX0_hedgehog_113 : decode cX0_hedgehog 113 = .ok (.iadd, 1) := dk_96 (dk_at dksX0_hedgehog_4 18 rfl rfl)
theorem dX0_hedgehog_114 : decode cX0_hedgehog 114 = .ok (.baload, 1) := dk_51 (dk_at dksX0_hedgehog_4 19 rfl rfl)
theorem dX0_hedgehog_115 : decode cX0_hedgehog 115 = .ok (.aaload, 1) := dk_50 (dk_at dksX0_hedgehog_4 20 rfl rfl)
theorem dX0_hedgehog_116 : decode cX0_hedgehog 116 = .ok (.invokevirtual 47, 3) := dk_182 0 47 (dk_at dksX0_hedgehog_4 21 rfl rfl)
theorem dX0_hedgehog_119 : decode cX0_hedgehog 119 = .ok (.goto 4, 3) := dk_167 0 4 (dk_at dksX0_hedgehog_5 0 rfl rfl)
theorem dX0_hedgehog_122 : decode cX0_hedgehog 122 = .ok (.iload_n 3, 1) := dk_29 (dk_at dksX0_hedgehog_5 3 rfl rfl)
theorem dX0_hedgehog_123 : decode cX0_hedgehog 123 = .ok (.ireturn, 1) := dk_172 (dk_at dksX0_hedgehog_5 4 rfl rfl)
abbrev cX0_isHedgehog : ByteArray := prog_1_method_19_code
def yX0_isHedgehog : MethodName := ⟨RX0, "isHedgehog", "(I)Z"⟩
def dkwX0_isHedgehog_0 : List UInt8 := [27, 133, 9, 42, 180, 0, 110, 180, 0, 187, 4, 100, 133, 184, 0, 139, 172]
abbrev dktX0_isHedgehog_0 : List UInt8 := dkwX0_isHedgehog_0 ++ []
theorem dksX0_isHedgehog_0 : cX0_isHedgehog.data.toList.drop 0 = dktX0_isHedgehog_0 := by decide +kernel
theorem dX0_isHedgehog_0 : decode cX0_isHedgehog 0 = .ok (.iload_n 1, 1) := dk_27 (dk_at dksX0_isHedgehog_0 0 rfl rfl)
theorem dX0_isHedgehog_1 : decode cX0_isHedgehog 1 = .ok (.i2l, 1) := dk_133 (dk_at dksX0_isHedgehog_0 1 rfl rfl)
theorem dX0_isHedgehog_2 : decode cX0_isHedgehog 2 = .ok (.lconst 0, 1) := dk_9 (dk_at dksX0_isHedgehog_0 2 rfl rfl)
theorem dX0_isHedgehog_3 : decode cX0_isHedgehog 3 = .ok (.aload_n 0, 1) := dk_42 (dk_at dksX0_isHedgehog_0 3 rfl rfl)
theorem dX0_isHedgehog_4 : decode cX0_isHedgehog 4 = .ok (.getfield 110, 3) := dk_180 0 110 (dk_at dksX0_isHedgehog_0 4 rfl rfl)
theorem dX0_isHedgehog_7 : decode cX0_isHedgehog 7 = .ok (.getfield 187, 3) := dk_180 0 187 (dk_at dksX0_isHedgehog_0 7 rfl rfl)
theorem dX0_isHedgehog_10 : decode cX0_isHedgehog 10 = .ok (.iconst 1, 1) := dk_4 (dk_at dksX0_isHedgehog_0 10 rfl rfl)
theorem dX0_isHedgehog_11 : decode cX0_isHedgehog 11 = .ok (.isub, 1) := dk_100 (dk_at dksX0_isHedgehog_0 11 rfl rfl)
theorem dX0_isHedgehog_12 : decode cX0_isHedgehog 12 = .ok (.i2l, 1) := dk_133 (dk_at dksX0_isHedgehog_0 12 rfl rfl)
theorem dX0_isHedgehog_13 : decode cX0_isHedgehog 13 = .ok (.invokestatic 139, 3) := dk_184 0 139 (dk_at dksX0_isHedgehog_0 13 rfl rfl)
theorem dX0_isHedgehog_16 : decode cX0_isHedgehog 16 = .ok (.ireturn, 1) := dk_172 (dk_at dksX0_isHedgehog_0 16 rfl rfl)
abbrev cX0_suit : ByteArray := prog_1_method_26_code
def yX0_suit : MethodName := ⟨RX0, "suit", "(II)I"⟩
def dkwX0_suit_3 : List UInt8 := [182, 0, 80, 172]
abbrev dktX0_suit_3 : List UInt8 := dkwX0_suit_3 ++ []
def dkwX0_suit_2 : List UInt8 := [162, 0, 19, 42, 180, 0, 110, 180, 0, 63, 5, 27, 104, 28, 96, 51, 167, 0, 11, 42, 42, 180, 0, 110]
abbrev dktX0_suit_2 : List UInt8 := dkwX0_suit_2 ++ dktX0_suit_3
def dkwX0_suit_1 : List UInt8 := [20, 0, 205, 184, 0, 139, 154, 0, 5, 2, 172, 42, 42, 180, 0, 110, 27, 182, 0, 76, 28, 5]
abbrev dktX0_suit_1 : List UInt8 := dkwX0_suit_1 ++ dktX0_suit_2
def dkwX0_suit_0 : List UInt8 := [27, 133, 9, 42, 180, 0, 110, 180, 0, 73, 4, 100, 133, 184, 0, 139, 153, 0, 15, 28, 133, 9]
abbrev dktX0_suit_0 : List UInt8 := dkwX0_suit_0 ++ dktX0_suit_1
theorem dksX0_suit_0 : cX0_suit.data.toList.drop 0 = dktX0_suit_0 := by decide +kernel
theorem dksX0_suit_1 : cX0_suit.data.toList.drop 22 = dktX0_suit_1 := dk_seg dksX0_suit_0 22 rfl rfl
theorem dksX0_suit_2 : cX0_suit.data.toList.drop 44 = dktX0_suit_2 := dk_seg dksX0_suit_1 22 rfl rfl
theorem dksX0_suit_3 : cX0_suit.data.toList.drop 68 = dktX0_suit_3 := dk_seg dksX0_suit_2 24 rfl rfl
theorem dX0_suit_0 : decode cX0_suit 0 = .ok (.iload_n 1, 1) := dk_27 (dk_at dksX0_suit_0 0 rfl rfl)
theorem dX0_suit_1 : decode cX0_suit 1 = .ok (.i2l, 1) := dk_133 (dk_at dksX0_suit_0 1 rfl rfl)
theorem dX0_suit_2 : decode cX0_suit 2 = .ok (.lconst 0, 1) := dk_9 (dk_at dksX0_suit_0 2 rfl rfl)
theorem dX0_suit_3 : decode cX0_suit 3 = .ok (.aload_n 0, 1) := dk_42 (dk_at dksX0_suit_0 3 rfl rfl)
theorem dX0_suit_4 : decode cX0_suit 4 = .ok (.getfield 110, 3) := dk_180 0 110 (dk_at dksX0_suit_0 4 rfl rfl)
theorem dX0_suit_7 : decode cX0_suit 7 = .ok (.getfield 73, 3) := dk_180 0 73 (dk_at dksX0_suit_0 7 rfl rfl)
theorem dX0_suit_10 : decode cX0_suit 10 = .ok (.iconst 1, 1) := dk_4 (dk_at dksX0_suit_0 10 rfl rfl)
theorem dX0_suit_11 : decode cX0_suit 11 = .ok (.isub, 1) := dk_100 (dk_at dksX0_suit_0 11 rfl rfl)
theorem dX0_suit_12 : decode cX0_suit 12 = .ok (.i2l, 1) := dk_133 (dk_at dksX0_suit_0 12 rfl rfl)
theorem dX0_suit_13 : decode cX0_suit 13 = .ok (.invokestatic 139, 3) := dk_184 0 139 (dk_at dksX0_suit_0 13 rfl rfl)
theorem dX0_suit_16 : decode cX0_suit 16 = .ok (.ifCond .eq 15, 3) := dk_153 0 15 (dk_at dksX0_suit_0 16 rfl rfl)
theorem dX0_suit_19 : decode cX0_suit 19 = .ok (.iload_n 2, 1) := dk_28 (dk_at dksX0_suit_0 19 rfl rfl)
theorem dX0_suit_20 : decode cX0_suit 20 = .ok (.i2l, 1) := dk_133 (dk_at dksX0_suit_0 20 rfl rfl)
theorem dX0_suit_21 : decode cX0_suit 21 = .ok (.lconst 0, 1) := dk_9 (dk_at dksX0_suit_0 21 rfl rfl)
theorem dX0_suit_22 : decode cX0_suit 22 = .ok (.ldc2_w 205, 3) := dk_20 0 205 (dk_at dksX0_suit_1 0 rfl rfl)
theorem dX0_suit_25 : decode cX0_suit 25 = .ok (.invokestatic 139, 3) := dk_184 0 139 (dk_at dksX0_suit_1 3 rfl rfl)
theorem dX0_suit_28 : decode cX0_suit 28 = .ok (.ifCond .ne 5, 3) := dk_154 0 5 (dk_at dksX0_suit_1 6 rfl rfl)
theorem dX0_suit_31 : decode cX0_suit 31 = .ok (.iconst (-1), 1) := dk_2 (dk_at dksX0_suit_1 9 rfl rfl)
theorem dX0_suit_32 : decode cX0_suit 32 = .ok (.ireturn, 1) := dk_172 (dk_at dksX0_suit_1 10 rfl rfl)
theorem dX0_suit_33 : decode cX0_suit 33 = .ok (.aload_n 0, 1) := dk_42 (dk_at dksX0_suit_1 11 rfl rfl)
theorem dX0_suit_34 : decode cX0_suit 34 = .ok (.aload_n 0, 1) := dk_42 (dk_at dksX0_suit_1 12 rfl rfl)
theorem dX0_suit_35 : decode cX0_suit 35 = .ok (.getfield 110, 3) := dk_180 0 110 (dk_at dksX0_suit_1 13 rfl rfl)
theorem dX0_suit_38 : decode cX0_suit 38 = .ok (.iload_n 1, 1) := dk_27 (dk_at dksX0_suit_1 16 rfl rfl)
theorem dX0_suit_39 : decode cX0_suit 39 = .ok (.invokevirtual 76, 3) := dk_182 0 76 (dk_at dksX0_suit_1 17 rfl rfl)
theorem dX0_suit_42 : decode cX0_suit 42 = .ok (.iload_n 2, 1) := dk_28 (dk_at dksX0_suit_1 20 rfl rfl)
theorem dX0_suit_43 : decode cX0_suit 43 = .ok (.iconst 2, 1) := dk_5 (dk_at dksX0_suit_1 21 rfl rfl)
theorem dX0_suit_44 : decode cX0_suit 44 = .ok (.if_icmp .ge 19, 3) := dk_162 0 19 (dk_at dksX0_suit_2 0 rfl rfl)
theorem dX0_suit_47 : decode cX0_suit 47 = .ok (.aload_n 0, 1) := dk_42 (dk_at dksX0_suit_2 3 rfl rfl)
theorem dX0_suit_48 : decode cX0_suit 48 = .ok (.getfield 110, 3) := dk_180 0 110 (dk_at dksX0_suit_2 4 rfl rfl)
theorem dX0_suit_51 : decode cX0_suit 51 = .ok (.getfield 63, 3) := dk_180 0 63 (dk_at dksX0_suit_2 7 rfl rfl)
theorem dX0_suit_54 : decode cX0_suit 54 = .ok (.iconst 2, 1) := dk_5 (dk_at dksX0_suit_2 10 rfl rfl)
theorem dX0_suit_55 : decode cX0_suit 55 = .ok (.iload_n 1, 1) := dk_27 (dk_at dksX0_suit_2 11 rfl rfl)
theorem dX0_suit_56 : decode cX0_suit 56 = .ok (.imul, 1) := dk_104 (dk_at dksX0_suit_2 12 rfl rfl)
theorem dX0_suit_57 : decode cX0_suit 57 = .ok (.iload_n 2, 1) := dk_28 (dk_at dksX0_suit_2 13 rfl rfl)
theorem dX0_suit_58 : decode cX0_suit 58 = .ok (.iadd, 1) := dk_96 (dk_at dksX0_suit_2 14 rfl rfl)
theorem dX0_suit_59 : decode cX0_suit 59 = .ok (.baload, 1) := dk_51 (dk_at dksX0_suit_2 15 rfl rfl)
theorem dX0_suit_60 : decode cX0_suit 60 = .ok (.goto 11, 3) := dk_167 0 11 (dk_at dksX0_suit_2 16 rfl rfl)
theorem dX0_suit_63 : decode cX0_suit 63 = .ok (.aload_n 0, 1) := dk_42 (dk_at dksX0_suit_2 19 rfl rfl)
theorem dX0_suit_64 : decode cX0_suit 64 = .ok (.aload_n 0, 1) := dk_42 (dk_at dksX0_suit_2 20 rfl rfl)
theorem dX0_suit_65 : decode cX0_suit 65 = .ok (.getfield 110, 3) := dk_180 0 110 (dk_at dksX0_suit_2 21 rfl rfl)
theorem dX0_suit_68 : decode cX0_suit 68 = .ok (.invokevirtual 80, 3) := dk_182 0 80 (dk_at dksX0_suit_3 0 rfl rfl)
theorem dX0_suit_71 : decode cX0_suit 71 = .ok (.ireturn, 1) := dk_172 (dk_at dksX0_suit_3 3 rfl rfl)
abbrev cX0_shift : ByteArray := prog_1_method_27_code
def yX0_shift : MethodName := ⟨RX0, "shift", "(II)I"⟩
def dkwX0_shift_2 : List UInt8 := [180, 0, 207, 27, 51, 62, 42, 180, 0, 110, 180, 0, 207, 27, 28, 145, 84, 29, 172]
abbrev dktX0_shift_2 : List UInt8 := dkwX0_shift_2 ++ []
def dkwX0_shift_1 : List UInt8 := [27, 51, 28, 159, 0, 17, 42, 180, 0, 110, 28, 182, 0, 216, 154, 0, 6, 16, 254, 172, 42, 180, 0, 110]
abbrev dktX0_shift_1 : List UInt8 := dkwX0_shift_1 ++ dktX0_shift_2
def dkwX0_shift_0 : List UInt8 := [42, 27, 182, 0, 202, 153, 0, 10, 28, 184, 0, 213, 154, 0, 5, 2, 172, 42, 180, 0, 110, 180, 0, 207]
abbrev dktX0_shift_0 : List UInt8 := dkwX0_shift_0 ++ dktX0_shift_1
theorem dksX0_shift_0 : cX0_shift.data.toList.drop 0 = dktX0_shift_0 := by decide +kernel
theorem dksX0_shift_1 : cX0_shift.data.toList.drop 24 = dktX0_shift_1 := dk_seg dksX0_shift_0 24 rfl rfl
theorem dksX0_shift_2 : cX0_shift.data.toList.drop 48 = dktX0_shift_2 := dk_seg dksX0_shift_1 24 rfl rfl
theorem dX0_shift_0 : decode cX0_shift 0 = .ok (.aload_n 0, 1) := dk_42 (dk_at dksX0_shift_0 0 rfl rfl)
theorem dX0_shift_1 : decode cX0_shift 1 = .ok (.iload_n 1, 1) := dk_27 (dk_at dksX0_shift_0 1 rfl rfl)
theorem dX0_shift_2 : decode cX0_shift 2 = .ok (.invokevirtual 202, 3) := dk_182 0 202 (dk_at dksX0_shift_0 2 rfl rfl)
theorem dX0_shift_5 : decode cX0_shift 5 = .ok (.ifCond .eq 10, 3) := dk_153 0 10 (dk_at dksX0_shift_0 5 rfl rfl)
theorem dX0_shift_8 : decode cX0_shift 8 = .ok (.iload_n 2, 1) := dk_28 (dk_at dksX0_shift_0 8 rfl rfl)
theorem dX0_shift_9 : decode cX0_shift 9 = .ok (.invokestatic 213, 3) := dk_184 0 213 (dk_at dksX0_shift_0 9 rfl rfl)
theorem dX0_shift_12 : decode cX0_shift 12 = .ok (.ifCond .ne 5, 3) := dk_154 0 5 (dk_at dksX0_shift_0 12 rfl rfl)
theorem dX0_shift_15 : decode cX0_shift 15 = .ok (.iconst (-1), 1) := dk_2 (dk_at dksX0_shift_0 15 rfl rfl)
theorem dX0_shift_16 : decode cX0_shift 16 = .ok (.ireturn, 1) := dk_172 (dk_at dksX0_shift_0 16 rfl rfl)
theorem dX0_shift_17 : decode cX0_shift 17 = .ok (.aload_n 0, 1) := dk_42 (dk_at dksX0_shift_0 17 rfl rfl)
theorem dX0_shift_18 : decode cX0_shift 18 = .ok (.getfield 110, 3) := dk_180 0 110 (dk_at dksX0_shift_0 18 rfl rfl)
theorem dX0_shift_21 : decode cX0_shift 21 = .ok (.getfield 207, 3) := dk_180 0 207 (dk_at dksX0_shift_0 21 rfl rfl)
theorem dX0_shift_24 : decode cX0_shift 24 = .ok (.iload_n 1, 1) := dk_27 (dk_at dksX0_shift_1 0 rfl rfl)
theorem dX0_shift_25 : decode cX0_shift 25 = .ok (.baload, 1) := dk_51 (dk_at dksX0_shift_1 1 rfl rfl)
theorem dX0_shift_26 : decode cX0_shift 26 = .ok (.iload_n 2, 1) := dk_28 (dk_at dksX0_shift_1 2 rfl rfl)
theorem dX0_shift_27 : decode cX0_shift 27 = .ok (.if_icmp .eq 17, 3) := dk_159 0 17 (dk_at dksX0_shift_1 3 rfl rfl)
theorem dX0_shift_30 : decode cX0_shift 30 = .ok (.aload_n 0, 1) := dk_42 (dk_at dksX0_shift_1 6 rfl rfl)
theorem dX0_shift_31 : decode cX0_shift 31 = .ok (.getfield 110, 3) := dk_180 0 110 (dk_at dksX0_shift_1 7 rfl rfl)
theorem dX0_shift_34 : decode cX0_shift 34 = .ok (.iload_n 2, 1) := dk_28 (dk_at dksX0_shift_1 10 rfl rfl)
theorem dX0_shift_35 : decode cX0_shift 35 = .ok (.invokevirtual 216, 3) := dk_182 0 216 (dk_at dksX0_shift_1 11 rfl rfl)
theorem dX0_shift_38 : decode cX0_shift 38 = .ok (.ifCond .ne 6, 3) := dk_154 0 6 (dk_at dksX0_shift_1 14 rfl rfl)
theorem dX0_shift_41 : decode cX0_shift 41 = .ok (.bipush (-2), 2) := dk_16 254 (dk_at dksX0_shift_1 17 rfl rfl)
theorem dX0_shift_43 : decode cX0_shift 43 = .ok (.ireturn, 1) := dk_172 (dk_at dksX0_shift_1 19 rfl rfl)
theorem dX0_shift_44 : decode cX0_shift 44 = .ok (.aload_n 0, 1) := dk_42 (dk_at dksX0_shift_1 20 rfl rfl)
theorem dX0_shift_45 : decode cX0_shift 45 = .ok (.getfield 110, 3) := dk_180 0 110 (dk_at dksX0_shift_1 21 rfl rfl)
theorem dX0_shift_48 : decode cX0_shift 48 = .ok (.getfield 207, 3) := dk_180 0 207 (dk_at dksX0_shift_2 0 rfl rfl)
theorem dX0_shift_51 : decode cX0_shift 51 = .ok (.iload_n 1, 1) := dk_27 (dk_at dksX0_shift_2 3 rfl rfl)
theorem dX0_shift_52 : decode cX0_shift 52 = .ok (.baload, 1) := dk_51 (dk_at dksX0_shift_2 4 rfl rfl)
theorem dX0_shift_53 : decode cX0_shift 53 = .ok (.istore_n 3, 1) := dk_62 (dk_at dksX0_shift_2 5 rfl rfl)
theorem dX0_shift_54 : decode cX0_shift 54 = .ok (.aload_n 0, 1) := dk_42 (dk_at dksX0_shift_2 6 rfl rfl)
theorem dX0_shift_55 : decode cX0_shift 55 = .ok (.getfield 110, 3) := dk_180 0 110 (dk_at dksX0_shift_2 7 rfl rfl)
theorem dX0_shift_58 : decode cX0_shift 58 = .ok (.getfield 207, 3) := dk_180 0 207 (dk_at dksX0_shift_2 10 rfl rfl)
theorem dX0_shift_61 : decode cX0_shift 61 = .ok (.iload_n 1, 1) := dk_27 (dk_at dksX0_shift_2 13 rfl rfl)
theorem dX0_shift_62 : decode cX0_shift 62 = .ok (.iload_n 2, 1) := dk_28 (dk_at dksX0_shift_2 14 rfl rfl)
theorem dX0_shift_63 : decode cX0_shift 63 = .ok (.i2b, 1) := dk_145 (dk_at dksX0_shift_2 15 rfl rfl)
theorem dX0_shift_64 : decode cX0_shift 64 = .ok (.bastore, 1) := dk_84 (dk_at dksX0_shift_2 16 rfl rfl)
theorem dX0_shift_65 : decode cX0_shift 65 = .ok (.iload_n 3, 1) := dk_29 (dk_at dksX0_shift_2 17 rfl rfl)
theorem dX0_shift_66 : decode cX0_shift 66 = .ok (.ireturn, 1) := dk_172 (dk_at dksX0_shift_2 18 rfl rfl)
abbrev cX0_rag : ByteArray := prog_1_method_28_code
def yX0_rag : MethodName := ⟨RX0, "rag", "(II)I"⟩
def dkwX0_rag_1 : List UInt8 := [27, 51, 62, 42, 180, 0, 110, 180, 0, 70, 27, 28, 145, 84, 29, 172]
abbrev dktX0_rag_1 : List UInt8 := dkwX0_rag_1 ++ []
def dkwX0_rag_0 : List UInt8 := [42, 27, 182, 0, 202, 153, 0, 10, 28, 184, 0, 219, 154, 0, 5, 2, 172, 42, 180, 0, 110, 180, 0, 70]
abbrev dktX0_rag_0 : List UInt8 := dkwX0_rag_0 ++ dktX0_rag_1
theorem dksX0_rag_0 : cX0_rag.data.toList.drop 0 = dktX0_rag_0 := by decide +kernel
theorem dksX0_rag_1 : cX0_rag.data.toList.drop 24 = dktX0_rag_1 := dk_seg dksX0_rag_0 24 rfl rfl
theorem dX0_rag_0 : decode cX0_rag 0 = .ok (.aload_n 0, 1) := dk_42 (dk_at dksX0_rag_0 0 rfl rfl)
theorem dX0_rag_1 : decode cX0_rag 1 = .ok (.iload_n 1, 1) := dk_27 (dk_at dksX0_rag_0 1 rfl rfl)
theorem dX0_rag_2 : decode cX0_rag 2 = .ok (.invokevirtual 202, 3) := dk_182 0 202 (dk_at dksX0_rag_0 2 rfl rfl)
theorem dX0_rag_5 : decode cX0_rag 5 = .ok (.ifCond .eq 10, 3) := dk_153 0 10 (dk_at dksX0_rag_0 5 rfl rfl)
theorem dX0_rag_8 : decode cX0_rag 8 = .ok (.iload_n 2, 1) := dk_28 (dk_at dksX0_rag_0 8 rfl rfl)
theorem dX0_rag_9 : decode cX0_rag 9 = .ok (.invokestatic 219, 3) := dk_184 0 219 (dk_at dksX0_rag_0 9 rfl rfl)
theorem dX0_rag_12 : decode cX0_rag 12 = .ok (.ifCond .ne 5, 3) := dk_154 0 5 (dk_at dksX0_rag_0 12 rfl rfl)
theorem dX0_rag_15 : decode cX0_rag 15 = .ok (.iconst (-1), 1) := dk_2 (dk_at dksX0_rag_0 15 rfl rfl)
theorem dX0_rag_16 : decode cX0_rag 16 = .ok (.ireturn, 1) := dk_172 (dk_at dksX0_rag_0 16 rfl rfl)
theorem dX0_rag_17 : decode cX0_rag 17 = .ok (.aload_n 0, 1) := dk_42 (dk_at dksX0_rag_0 17 rfl rfl)
theorem dX0_rag_18 : decode cX0_rag 18 = .ok (.getfield 110, 3) := dk_180 0 110 (dk_at dksX0_rag_0 18 rfl rfl)
theorem dX0_rag_21 : decode cX0_rag 21 = .ok (.getfield 70, 3) := dk_180 0 70 (dk_at dksX0_rag_0 21 rfl rfl)
theorem dX0_rag_24 : decode cX0_rag 24 = .ok (.iload_n 1, 1) := dk_27 (dk_at dksX0_rag_1 0 rfl rfl)
theorem dX0_rag_25 : decode cX0_rag 25 = .ok (.baload, 1) := dk_51 (dk_at dksX0_rag_1 1 rfl rfl)
theorem dX0_rag_26 : decode cX0_rag 26 = .ok (.istore_n 3, 1) := dk_62 (dk_at dksX0_rag_1 2 rfl rfl)
theorem dX0_rag_27 : decode cX0_rag 27 = .ok (.aload_n 0, 1) := dk_42 (dk_at dksX0_rag_1 3 rfl rfl)
theorem dX0_rag_28 : decode cX0_rag 28 = .ok (.getfield 110, 3) := dk_180 0 110 (dk_at dksX0_rag_1 4 rfl rfl)
theorem dX0_rag_31 : decode cX0_rag 31 = .ok (.getfield 70, 3) := dk_180 0 70 (dk_at dksX0_rag_1 7 rfl rfl)
theorem dX0_rag_34 : decode cX0_rag 34 = .ok (.iload_n 1, 1) := dk_27 (dk_at dksX0_rag_1 10 rfl rfl)
theorem dX0_rag_35 : decode cX0_rag 35 = .ok (.iload_n 2, 1) := dk_28 (dk_at dksX0_rag_1 11 rfl rfl)
theorem dX0_rag_36 : decode cX0_rag 36 = .ok (.i2b, 1) := dk_145 (dk_at dksX0_rag_1 12 rfl rfl)
theorem dX0_rag_37 : decode cX0_rag 37 = .ok (.bastore, 1) := dk_84 (dk_at dksX0_rag_1 13 rfl rfl)
theorem dX0_rag_38 : decode cX0_rag 38 = .ok (.iload_n 3, 1) := dk_29 (dk_at dksX0_rag_1 14 rfl rfl)
theorem dX0_rag_39 : decode cX0_rag 39 = .ok (.ireturn, 1) := dk_172 (dk_at dksX0_rag_1 15 rfl rfl)
abbrev cX0_isRag : ByteArray := prog_1_method_17_code
def yX0_isRag : MethodName := ⟨RX0, "isRag", "(I)Z"⟩
def dkwX0_isRag_0 : List UInt8 := [26, 133, 9, 20, 0, 182, 184, 0, 139, 172]
abbrev dktX0_isRag_0 : List UInt8 := dkwX0_isRag_0 ++ []
theorem dksX0_isRag_0 : cX0_isRag.data.toList.drop 0 = dktX0_isRag_0 := by decide +kernel
theorem dX0_isRag_0 : decode cX0_isRag 0 = .ok (.iload_n 0, 1) := dk_26 (dk_at dksX0_isRag_0 0 rfl rfl)
theorem dX0_isRag_1 : decode cX0_isRag 1 = .ok (.i2l, 1) := dk_133 (dk_at dksX0_isRag_0 1 rfl rfl)
theorem dX0_isRag_2 : decode cX0_isRag 2 = .ok (.lconst 0, 1) := dk_9 (dk_at dksX0_isRag_0 2 rfl rfl)
theorem dX0_isRag_3 : decode cX0_isRag 3 = .ok (.ldc2_w 182, 3) := dk_20 0 182 (dk_at dksX0_isRag_0 3 rfl rfl)
theorem dX0_isRag_6 : decode cX0_isRag 6 = .ok (.invokestatic 139, 3) := dk_184 0 139 (dk_at dksX0_isRag_0 6 rfl rfl)
theorem dX0_isRag_9 : decode cX0_isRag 9 = .ok (.ireturn, 1) := dk_172 (dk_at dksX0_isRag_0 9 rfl rfl)
abbrev cX0_alter : ByteArray := prog_1_method_29_code
def yX0_alter : MethodName := ⟨RX0, "alter", "(III)I"⟩
def dkwX0_alter_3 : List UInt8 := [180, 0, 110, 180, 0, 16, 5, 27, 104, 28, 96, 29, 145, 84, 21, 5, 172]
abbrev dktX0_alter_3 : List UInt8 := dkwX0_alter_3 ++ []
def dkwX0_alter_2 : List UInt8 := [21, 4, 154, 0, 5, 2, 172, 42, 180, 0, 110, 180, 0, 16, 5, 27, 104, 28, 96, 51, 54, 5, 42]
abbrev dktX0_alter_2 : List UInt8 := dkwX0_alter_2 ++ dktX0_alter_3
def dkwX0_alter_1 : List UInt8 := [20, 0, 222, 184, 0, 139, 153, 0, 7, 4, 167, 0, 4, 3, 54, 4, 42, 27, 182, 0, 190, 153, 0, 8]
abbrev dktX0_alter_1 : List UInt8 := dkwX0_alter_1 ++ dktX0_alter_2
def dkwX0_alter_0 : List UInt8 := [28, 154, 0, 15, 29, 133, 9, 20, 0, 182, 184, 0, 139, 167, 0, 25, 28, 4, 160, 0, 19, 29, 133, 10]
abbrev dktX0_alter_0 : List UInt8 := dkwX0_alter_0 ++ dktX0_alter_1
theorem dksX0_alter_0 : cX0_alter.data.toList.drop 0 = dktX0_alter_0 := by decide +kernel
theorem dksX0_alter_1 : cX0_alter.data.toList.drop 24 = dktX0_alter_1 := dk_seg dksX0_alter_0 24 rfl rfl
theorem dksX0_alter_2 : cX0_alter.data.toList.drop 48 = dktX0_alter_2 := dk_seg dksX0_alter_1 24 rfl rfl
theorem dksX0_alter_3 : cX0_alter.data.toList.drop 71 = dktX0_alter_3 := dk_seg dksX0_alter_2 23 rfl rfl
theorem dX0_alter_0 : decode cX0_alter 0 = .ok (.iload_n 2, 1) := dk_28 (dk_at dksX0_alter_0 0 rfl rfl)
theorem dX0_alter_1 : decode cX0_alter 1 = .ok (.ifCond .ne 15, 3) := dk_154 0 15 (dk_at dksX0_alter_0 1 rfl rfl)
theorem dX0_alter_4 : decode cX0_alter 4 = .ok (.iload_n 3, 1) := dk_29 (dk_at dksX0_alter_0 4 rfl rfl)
theorem dX0_alter_5 : decode cX0_alter 5 = .ok (.i2l, 1) := dk_133 (dk_at dksX0_alter_0 5 rfl rfl)
theorem dX0_alter_6 : decode cX0_alter 6 = .ok (.lconst 0, 1) := dk_9 (dk_at dksX0_alter_0 6 rfl rfl)
theorem dX0_alter_7 : decode cX0_alter 7 = .ok (.ldc2_w 182, 3) := dk_20 0 182 (dk_at dksX0_alter_0 7 rfl rfl)
theorem dX0_alter_10 : decode cX0_alter 10 = .ok (.invokestatic 139, 3) := dk_184 0 139 (dk_at dksX0_alter_0 10 rfl rfl)
theorem dX0_alter_13 : decode cX0_alter 13 = .ok (.goto 25, 3) := dk_167 0 25 (dk_at dksX0_alter_0 13 rfl rfl)
theorem dX0_alter_16 : decode cX0_alter 16 = .ok (.iload_n 2, 1) := dk_28 (dk_at dksX0_alter_0 16 rfl rfl)
theorem dX0_alter_17 : decode cX0_alter 17 = .ok (.iconst 1, 1) := dk_4 (dk_at dksX0_alter_0 17 rfl rfl)
theorem dX0_alter_18 : decode cX0_alter 18 = .ok (.if_icmp .ne 19, 3) := dk_160 0 19 (dk_at dksX0_alter_0 18 rfl rfl)
theorem dX0_alter_21 : decode cX0_alter 21 = .ok (.iload_n 3, 1) := dk_29 (dk_at dksX0_alter_0 21 rfl rfl)
theorem dX0_alter_22 : decode cX0_alter 22 = .ok (.i2l, 1) := dk_133 (dk_at dksX0_alter_0 22 rfl rfl)
theorem dX0_alter_23 : decode cX0_alter 23 = .ok (.lconst 1, 1) := dk_10 (dk_at dksX0_alter_0 23 rfl rfl)
theorem dX0_alter_24 : decode cX0_alter 24 = .ok (.ldc2_w 222, 3) := dk_20 0 222 (dk_at dksX0_alter_1 0 rfl rfl)
theorem dX0_alter_27 : decode cX0_alter 27 = .ok (.invokestatic 139, 3) := dk_184 0 139 (dk_at dksX0_alter_1 3 rfl rfl)
theorem dX0_alter_30 : decode cX0_alter 30 = .ok (.ifCond .eq 7, 3) := dk_153 0 7 (dk_at dksX0_alter_1 6 rfl rfl)
theorem dX0_alter_33 : decode cX0_alter 33 = .ok (.iconst 1, 1) := dk_4 (dk_at dksX0_alter_1 9 rfl rfl)
theorem dX0_alter_34 : decode cX0_alter 34 = .ok (.goto 4, 3) := dk_167 0 4 (dk_at dksX0_alter_1 10 rfl rfl)
theorem dX0_alter_37 : decode cX0_alter 37 = .ok (.iconst 0, 1) := dk_3 (dk_at dksX0_alter_1 13 rfl rfl)
theorem dX0_alter_38 : decode cX0_alter 38 = .ok (.istore 4, 2) := dk_54 4 (dk_at dksX0_alter_1 14 rfl rfl)
theorem dX0_alter_40 : decode cX0_alter 40 = .ok (.aload_n 0, 1) := dk_42 (dk_at dksX0_alter_1 16 rfl rfl)
theorem dX0_alter_41 : decode cX0_alter 41 = .ok (.iload_n 1, 1) := dk_27 (dk_at dksX0_alter_1 17 rfl rfl)
theorem dX0_alter_42 : decode cX0_alter 42 = .ok (.invokevirtual 190, 3) := dk_182 0 190 (dk_at dksX0_alter_1 18 rfl rfl)
theorem dX0_alter_45 : decode cX0_alter 45 = .ok (.ifCond .eq 8, 3) := dk_153 0 8 (dk_at dksX0_alter_1 21 rfl rfl)
theorem dX0_alter_48 : decode cX0_alter 48 = .ok (.iload 4, 2) := dk_21 4 (dk_at dksX0_alter_2 0 rfl rfl)
theorem dX0_alter_50 : decode cX0_alter 50 = .ok (.ifCond .ne 5, 3) := dk_154 0 5 (dk_at dksX0_alter_2 2 rfl rfl)
theorem dX0_alter_53 : decode cX0_alter 53 = .ok (.iconst (-1), 1) := dk_2 (dk_at dksX0_alter_2 5 rfl rfl)
theorem dX0_alter_54 : decode cX0_alter 54 = .ok (.ireturn, 1) := dk_172 (dk_at dksX0_alter_2 6 rfl rfl)
theorem dX0_alter_55 : decode cX0_alter 55 = .ok (.aload_n 0, 1) := dk_42 (dk_at dksX0_alter_2 7 rfl rfl)
theorem dX0_alter_56 : decode cX0_alter 56 = .ok (.getfield 110, 3) := dk_180 0 110 (dk_at dksX0_alter_2 8 rfl rfl)
theorem dX0_alter_59 : decode cX0_alter 59 = .ok (.getfield 16, 3) := dk_180 0 16 (dk_at dksX0_alter_2 11 rfl rfl)
theorem dX0_alter_62 : decode cX0_alter 62 = .ok (.iconst 2, 1) := dk_5 (dk_at dksX0_alter_2 14 rfl rfl)
theorem dX0_alter_63 : decode cX0_alter 63 = .ok (.iload_n 1, 1) := dk_27 (dk_at dksX0_alter_2 15 rfl rfl)
theorem dX0_alter_64 : decode cX0_alter 64 = .ok (.imul, 1) := dk_104 (dk_at dksX0_alter_2 16 rfl rfl)
theorem dX0_alter_65 : decode cX0_alter 65 = .ok (.iload_n 2, 1) := dk_28 (dk_at dksX0_alter_2 17 rfl rfl)
theorem dX0_alter_66 : decode cX0_alter 66 = .ok (.iadd, 1) := dk_96 (dk_at dksX0_alter_2 18 rfl rfl)
theorem dX0_alter_67 : decode cX0_alter 67 = .ok (.baload, 1) := dk_51 (dk_at dksX0_alter_2 19 rfl rfl)
theorem dX0_alter_68 : decode cX0_alter 68 = .ok (.istore 5, 2) := dk_54 5 (dk_at dksX0_alter_2 20 rfl rfl)
theorem dX0_alter_70 : decode cX0_alter 70 = .ok (.aload_n 0, 1) := dk_42 (dk_at dksX0_alter_2 22 rfl rfl)
theorem dX0_alter_71 : decode cX0_alter 71 = .ok (.getfield 110, 3) := dk_180 0 110 (dk_at dksX0_alter_3 0 rfl rfl)
theorem dX0_alter_74 : decode cX0_alter 74 = .ok (.getfield 16, 3) := dk_180 0 16 (dk_at dksX0_alter_3 3 rfl rfl)
theorem dX0_alter_77 : decode cX0_alter 77 = .ok (.iconst 2, 1) := dk_5 (dk_at dksX0_alter_3 6 rfl rfl)
theorem dX0_alter_78 : decode cX0_alter 78 = .ok (.iload_n 1, 1) := dk_27 (dk_at dksX0_alter_3 7 rfl rfl)
theorem dX0_alter_79 : decode cX0_alter 79 = .ok (.imul, 1) := dk_104 (dk_at dksX0_alter_3 8 rfl rfl)
theorem dX0_alter_80 : decode cX0_alter 80 = .ok (.iload_n 2, 1) := dk_28 (dk_at dksX0_alter_3 9 rfl rfl)
theorem dX0_alter_81 : decode cX0_alter 81 = .ok (.iadd, 1) := dk_96 (dk_at dksX0_alter_3 10 rfl rfl)
theorem dX0_alter_82 : decode cX0_alter 82 = .ok (.iload_n 3, 1) := dk_29 (dk_at dksX0_alter_3 11 rfl rfl)
theorem dX0_alter_83 : decode cX0_alter 83 = .ok (.i2b, 1) := dk_145 (dk_at dksX0_alter_3 12 rfl rfl)
theorem dX0_alter_84 : decode cX0_alter 84 = .ok (.bastore, 1) := dk_84 (dk_at dksX0_alter_3 13 rfl rfl)
theorem dX0_alter_85 : decode cX0_alter 85 = .ok (.iload 5, 2) := dk_21 5 (dk_at dksX0_alter_3 14 rfl rfl)
theorem dX0_alter_87 : decode cX0_alter 87 = .ok (.ireturn, 1) := dk_172 (dk_at dksX0_alter_3 16 rfl rfl)
abbrev cX0_drive : ByteArray := prog_1_method_30_code
def yX0_drive : MethodName := ⟨RX0, "drive", "(II)I"⟩
def dkwX0_drive_2 : List UInt8 := [180, 0, 110, 27, 28, 182, 0, 224, 42, 180, 0, 110, 180, 0, 184, 172]
abbrev dktX0_drive_2 : List UInt8 := dkwX0_drive_2 ++ []
def dkwX0_drive_1 : List UInt8 := [154, 0, 6, 16, 254, 172, 42, 180, 0, 110, 180, 0, 184, 16, 7, 160, 0, 6, 16, 253, 172, 42]
abbrev dktX0_drive_1 : List UInt8 := dkwX0_drive_1 ++ dktX0_drive_2
def dkwX0_drive_0 : List UInt8 := [27, 184, 0, 213, 153, 0, 10, 28, 184, 0, 219, 154, 0, 5, 2, 172, 42, 180, 0, 110, 27, 182, 0, 216]
abbrev dktX0_drive_0 : List UInt8 := dkwX0_drive_0 ++ dktX0_drive_1
theorem dksX0_drive_0 : cX0_drive.data.toList.drop 0 = dktX0_drive_0 := by decide +kernel
theorem dksX0_drive_1 : cX0_drive.data.toList.drop 24 = dktX0_drive_1 := dk_seg dksX0_drive_0 24 rfl rfl
theorem dksX0_drive_2 : cX0_drive.data.toList.drop 46 = dktX0_drive_2 := dk_seg dksX0_drive_1 22 rfl rfl
theorem dX0_drive_0 : decode cX0_drive 0 = .ok (.iload_n 1, 1) := dk_27 (dk_at dksX0_drive_0 0 rfl rfl)
theorem dX0_drive_1 : decode cX0_drive 1 = .ok (.invokestatic 213, 3) := dk_184 0 213 (dk_at dksX0_drive_0 1 rfl rfl)
theorem dX0_drive_4 : decode cX0_drive 4 = .ok (.ifCond .eq 10, 3) := dk_153 0 10 (dk_at dksX0_drive_0 4 rfl rfl)
theorem dX0_drive_7 : decode cX0_drive 7 = .ok (.iload_n 2, 1) := dk_28 (dk_at dksX0_drive_0 7 rfl rfl)
theorem dX0_drive_8 : decode cX0_drive 8 = .ok (.invokestatic 219, 3) := dk_184 0 219 (dk_at dksX0_drive_0 8 rfl rfl)
theorem dX0_drive_11 : decode cX0_drive 11 = .ok (.ifCond .ne 5, 3) := dk_154 0 5 (dk_at dksX0_drive_0 11 rfl rfl)
theorem dX0_drive_14 : decode cX0_drive 14 = .ok (.iconst (-1), 1) := dk_2 (dk_at dksX0_drive_0 14 rfl rfl)
theorem dX0_drive_15 : decode cX0_drive 15 = .ok (.ireturn, 1) := dk_172 (dk_at dksX0_drive_0 15 rfl rfl)
theorem dX0_drive_16 : decode cX0_drive 16 = .ok (.aload_n 0, 1) := dk_42 (dk_at dksX0_drive_0 16 rfl rfl)
theorem dX0_drive_17 : decode cX0_drive 17 = .ok (.getfield 110, 3) := dk_180 0 110 (dk_at dksX0_drive_0 17 rfl rfl)
theorem dX0_drive_20 : decode cX0_drive 20 = .ok (.iload_n 1, 1) := dk_27 (dk_at dksX0_drive_0 20 rfl rfl)
theorem dX0_drive_21 : decode cX0_drive 21 = .ok (.invokevirtual 216, 3) := dk_182 0 216 (dk_at dksX0_drive_0 21 rfl rfl)
theorem dX0_drive_24 : decode cX0_drive 24 = .ok (.ifCond .ne 6, 3) := dk_154 0 6 (dk_at dksX0_drive_1 0 rfl rfl)
theorem dX0_drive_27 : decode cX0_drive 27 = .ok (.bipush (-2), 2) := dk_16 254 (dk_at dksX0_drive_1 3 rfl rfl)
theorem dX0_drive_29 : decode cX0_drive 29 = .ok (.ireturn, 1) := dk_172 (dk_at dksX0_drive_1 5 rfl rfl)
theorem dX0_drive_30 : decode cX0_drive 30 = .ok (.aload_n 0, 1) := dk_42 (dk_at dksX0_drive_1 6 rfl rfl)
theorem dX0_drive_31 : decode cX0_drive 31 = .ok (.getfield 110, 3) := dk_180 0 110 (dk_at dksX0_drive_1 7 rfl rfl)
theorem dX0_drive_34 : decode cX0_drive 34 = .ok (.getfield 184, 3) := dk_180 0 184 (dk_at dksX0_drive_1 10 rfl rfl)
theorem dX0_drive_37 : decode cX0_drive 37 = .ok (.bipush 7, 2) := dk_16 7 (dk_at dksX0_drive_1 13 rfl rfl)
theorem dX0_drive_39 : decode cX0_drive 39 = .ok (.if_icmp .ne 6, 3) := dk_160 0 6 (dk_at dksX0_drive_1 15 rfl rfl)
theorem dX0_drive_42 : decode cX0_drive 42 = .ok (.bipush (-3), 2) := dk_16 253 (dk_at dksX0_drive_1 18 rfl rfl)
theorem dX0_drive_44 : decode cX0_drive 44 = .ok (.ireturn, 1) := dk_172 (dk_at dksX0_drive_1 20 rfl rfl)
theorem dX0_drive_45 : decode cX0_drive 45 = .ok (.aload_n 0, 1) := dk_42 (dk_at dksX0_drive_1 21 rfl rfl)
theorem dX0_drive_46 : decode cX0_drive 46 = .ok (.getfield 110, 3) := dk_180 0 110 (dk_at dksX0_drive_2 0 rfl rfl)
theorem dX0_drive_49 : decode cX0_drive 49 = .ok (.iload_n 1, 1) := dk_27 (dk_at dksX0_drive_2 3 rfl rfl)
theorem dX0_drive_50 : decode cX0_drive 50 = .ok (.iload_n 2, 1) := dk_28 (dk_at dksX0_drive_2 4 rfl rfl)
theorem dX0_drive_51 : decode cX0_drive 51 = .ok (.invokevirtual 224, 3) := dk_182 0 224 (dk_at dksX0_drive_2 5 rfl rfl)
theorem dX0_drive_54 : decode cX0_drive 54 = .ok (.aload_n 0, 1) := dk_42 (dk_at dksX0_drive_2 8 rfl rfl)
theorem dX0_drive_55 : decode cX0_drive 55 = .ok (.getfield 110, 3) := dk_180 0 110 (dk_at dksX0_drive_2 9 rfl rfl)
theorem dX0_drive_58 : decode cX0_drive 58 = .ok (.getfield 184, 3) := dk_180 0 184 (dk_at dksX0_drive_2 12 rfl rfl)
theorem dX0_drive_61 : decode cX0_drive 61 = .ok (.ireturn, 1) := dk_172 (dk_at dksX0_drive_2 15 rfl rfl)
abbrev cX0_lay : ByteArray := prog_1_method_31_code
def yX0_lay : MethodName := ⟨RX0, "lay", "(I)I"⟩
def dkwX0_lay_2 : List UInt8 := [180, 0, 110, 180, 0, 196, 172]
abbrev dktX0_lay_2 : List UInt8 := dkwX0_lay_2 ++ []
def dkwX0_lay_1 : List UInt8 := [180, 0, 110, 180, 0, 196, 7, 160, 0, 6, 16, 253, 172, 42, 180, 0, 110, 27, 182, 0, 228, 42]
abbrev dktX0_lay_1 : List UInt8 := dkwX0_lay_1 ++ dktX0_lay_2
def dkwX0_lay_0 : List UInt8 := [27, 184, 0, 213, 154, 0, 5, 2, 172, 42, 180, 0, 110, 27, 182, 0, 216, 154, 0, 6, 16, 254, 172, 42]
abbrev dktX0_lay_0 : List UInt8 := dkwX0_lay_0 ++ dktX0_lay_1
theorem dksX0_lay_0 : cX0_lay.data.toList.drop 0 = dktX0_lay_0 := by decide +kernel
theorem dksX0_lay_1 : cX0_lay.data.toList.drop 24 = dktX0_lay_1 := dk_seg dksX0_lay_0 24 rfl rfl
theorem dksX0_lay_2 : cX0_lay.data.toList.drop 46 = dktX0_lay_2 := dk_seg dksX0_lay_1 22 rfl rfl
theorem dX0_lay_0 : decode cX0_lay 0 = .ok (.iload_n 1, 1) := dk_27 (dk_at dksX0_lay_0 0 rfl rfl)
theorem dX0_lay_1 : decode cX0_lay 1 = .ok (.invokestatic 213, 3) := dk_184 0 213 (dk_at dksX0_lay_0 1 rfl rfl)
theorem dX0_lay_4 : decode cX0_lay 4 = .ok (.ifCond .ne 5, 3) := dk_154 0 5 (dk_at dksX0_lay_0 4 rfl rfl)
theorem dX0_lay_7 : decode cX0_lay 7 = .ok (.iconst (-1), 1) := dk_2 (dk_at dksX0_lay_0 7 rfl rfl)
theorem dX0_lay_8 : decode cX0_lay 8 = .ok (.ireturn, 1) := dk_172 (dk_at dksX0_lay_0 8 rfl rfl)
theorem dX0_lay_9 : decode cX0_lay 9 = .ok (.aload_n 0, 1) := dk_42 (dk_at dksX0_lay_0 9 rfl rfl)
theorem dX0_lay_10 : decode cX0_lay 10 = .ok (.getfield 110, 3) := dk_180 0 110 (dk_at dksX0_lay_0 10 rfl rfl)
theorem dX0_lay_13 : decode cX0_lay 13 = .ok (.iload_n 1, 1) := dk_27 (dk_at dksX0_lay_0 13 rfl rfl)
theorem dX0_lay_14 : decode cX0_lay 14 = .ok (.invokevirtual 216, 3) := dk_182 0 216 (dk_at dksX0_lay_0 14 rfl rfl)
theorem dX0_lay_17 : decode cX0_lay 17 = .ok (.ifCond .ne 6, 3) := dk_154 0 6 (dk_at dksX0_lay_0 17 rfl rfl)
theorem dX0_lay_20 : decode cX0_lay 20 = .ok (.bipush (-2), 2) := dk_16 254 (dk_at dksX0_lay_0 20 rfl rfl)
theorem dX0_lay_22 : decode cX0_lay 22 = .ok (.ireturn, 1) := dk_172 (dk_at dksX0_lay_0 22 rfl rfl)
theorem dX0_lay_23 : decode cX0_lay 23 = .ok (.aload_n 0, 1) := dk_42 (dk_at dksX0_lay_0 23 rfl rfl)
theorem dX0_lay_24 : decode cX0_lay 24 = .ok (.getfield 110, 3) := dk_180 0 110 (dk_at dksX0_lay_1 0 rfl rfl)
theorem dX0_lay_27 : decode cX0_lay 27 = .ok (.getfield 196, 3) := dk_180 0 196 (dk_at dksX0_lay_1 3 rfl rfl)
theorem dX0_lay_30 : decode cX0_lay 30 = .ok (.iconst 4, 1) := dk_7 (dk_at dksX0_lay_1 6 rfl rfl)
theorem dX0_lay_31 : decode cX0_lay 31 = .ok (.if_icmp .ne 6, 3) := dk_160 0 6 (dk_at dksX0_lay_1 7 rfl rfl)
theorem dX0_lay_34 : decode cX0_lay 34 = .ok (.bipush (-3), 2) := dk_16 253 (dk_at dksX0_lay_1 10 rfl rfl)
theorem dX0_lay_36 : decode cX0_lay 36 = .ok (.ireturn, 1) := dk_172 (dk_at dksX0_lay_1 12 rfl rfl)
theorem dX0_lay_37 : decode cX0_lay 37 = .ok (.aload_n 0, 1) := dk_42 (dk_at dksX0_lay_1 13 rfl rfl)
theorem dX0_lay_38 : decode cX0_lay 38 = .ok (.getfield 110, 3) := dk_180 0 110 (dk_at dksX0_lay_1 14 rfl rfl)
theorem dX0_lay_41 : decode cX0_lay 41 = .ok (.iload_n 1, 1) := dk_27 (dk_at dksX0_lay_1 17 rfl rfl)
theorem dX0_lay_42 : decode cX0_lay 42 = .ok (.invokevirtual 228, 3) := dk_182 0 228 (dk_at dksX0_lay_1 18 rfl rfl)
theorem dX0_lay_45 : decode cX0_lay 45 = .ok (.aload_n 0, 1) := dk_42 (dk_at dksX0_lay_1 21 rfl rfl)
theorem dX0_lay_46 : decode cX0_lay 46 = .ok (.getfield 110, 3) := dk_180 0 110 (dk_at dksX0_lay_2 0 rfl rfl)
theorem dX0_lay_49 : decode cX0_lay 49 = .ok (.getfield 196, 3) := dk_180 0 196 (dk_at dksX0_lay_2 3 rfl rfl)
theorem dX0_lay_52 : decode cX0_lay 52 = .ok (.ireturn, 1) := dk_172 (dk_at dksX0_lay_2 6 rfl rfl)
abbrev cX0_clear : ByteArray := prog_1_method_32_code
def yX0_clear : MethodName := ⟨RX0, "clear", "(I)I"⟩
def dkwX0_clear_1 : List UInt8 := [180, 0, 196, 61, 42, 180, 0, 110, 27, 181, 0, 196, 28, 172]
abbrev dktX0_clear_1 : List UInt8 := dkwX0_clear_1 ++ []
def dkwX0_clear_0 : List UInt8 := [27, 133, 9, 42, 180, 0, 110, 180, 0, 196, 133, 184, 0, 139, 154, 0, 5, 2, 172, 42, 180, 0, 110]
abbrev dktX0_clear_0 : List UInt8 := dkwX0_clear_0 ++ dktX0_clear_1
theorem dksX0_clear_0 : cX0_clear.data.toList.drop 0 = dktX0_clear_0 := by decide +kernel
theorem dksX0_clear_1 : cX0_clear.data.toList.drop 23 = dktX0_clear_1 := dk_seg dksX0_clear_0 23 rfl rfl
theorem dX0_clear_0 : decode cX0_clear 0 = .ok (.iload_n 1, 1) := dk_27 (dk_at dksX0_clear_0 0 rfl rfl)
theorem dX0_clear_1 : decode cX0_clear 1 = .ok (.i2l, 1) := dk_133 (dk_at dksX0_clear_0 1 rfl rfl)
theorem dX0_clear_2 : decode cX0_clear 2 = .ok (.lconst 0, 1) := dk_9 (dk_at dksX0_clear_0 2 rfl rfl)
theorem dX0_clear_3 : decode cX0_clear 3 = .ok (.aload_n 0, 1) := dk_42 (dk_at dksX0_clear_0 3 rfl rfl)
theorem dX0_clear_4 : decode cX0_clear 4 = .ok (.getfield 110, 3) := dk_180 0 110 (dk_at dksX0_clear_0 4 rfl rfl)
theorem dX0_clear_7 : decode cX0_clear 7 = .ok (.getfield 196, 3) := dk_180 0 196 (dk_at dksX0_clear_0 7 rfl rfl)
theorem dX0_clear_10 : decode cX0_clear 10 = .ok (.i2l, 1) := dk_133 (dk_at dksX0_clear_0 10 rfl rfl)
theorem dX0_clear_11 : decode cX0_clear 11 = .ok (.invokestatic 139, 3) := dk_184 0 139 (dk_at dksX0_clear_0 11 rfl rfl)
theorem dX0_clear_14 : decode cX0_clear 14 = .ok (.ifCond .ne 5, 3) := dk_154 0 5 (dk_at dksX0_clear_0 14 rfl rfl)
theorem dX0_clear_17 : decode cX0_clear 17 = .ok (.iconst (-1), 1) := dk_2 (dk_at dksX0_clear_0 17 rfl rfl)
theorem dX0_clear_18 : decode cX0_clear 18 = .ok (.ireturn, 1) := dk_172 (dk_at dksX0_clear_0 18 rfl rfl)
theorem dX0_clear_19 : decode cX0_clear 19 = .ok (.aload_n 0, 1) := dk_42 (dk_at dksX0_clear_0 19 rfl rfl)
theorem dX0_clear_20 : decode cX0_clear 20 = .ok (.getfield 110, 3) := dk_180 0 110 (dk_at dksX0_clear_0 20 rfl rfl)
theorem dX0_clear_23 : decode cX0_clear 23 = .ok (.getfield 196, 3) := dk_180 0 196 (dk_at dksX0_clear_1 0 rfl rfl)
theorem dX0_clear_26 : decode cX0_clear 26 = .ok (.istore_n 2, 1) := dk_61 (dk_at dksX0_clear_1 3 rfl rfl)
theorem dX0_clear_27 : decode cX0_clear 27 = .ok (.aload_n 0, 1) := dk_42 (dk_at dksX0_clear_1 4 rfl rfl)
theorem dX0_clear_28 : decode cX0_clear 28 = .ok (.getfield 110, 3) := dk_180 0 110 (dk_at dksX0_clear_1 5 rfl rfl)
theorem dX0_clear_31 : decode cX0_clear 31 = .ok (.iload_n 1, 1) := dk_27 (dk_at dksX0_clear_1 8 rfl rfl)
theorem dX0_clear_32 : decode cX0_clear 32 = .ok (.putfield 196, 3) := dk_181 0 196 (dk_at dksX0_clear_1 9 rfl rfl)
theorem dX0_clear_35 : decode cX0_clear 35 = .ok (.iload_n 2, 1) := dk_28 (dk_at dksX0_clear_1 12 rfl rfl)
theorem dX0_clear_36 : decode cX0_clear 36 = .ok (.ireturn, 1) := dk_172 (dk_at dksX0_clear_1 13 rfl rfl)
abbrev cX0_sue : ByteArray := prog_1_method_33_code
def yX0_sue : MethodName := ⟨RX0, "sue", "(II)I"⟩
def dkwX0_sue_3 : List UInt8 := [89, 180, 0, 73, 4, 96, 181, 0, 73, 42, 180, 0, 110, 180, 0, 73, 172]
abbrev dktX0_sue_3 : List UInt8 := dkwX0_sue_3 ++ []
def dkwX0_sue_2 : List UInt8 := [180, 0, 110, 180, 0, 63, 5, 42, 180, 0, 110, 180, 0, 73, 104, 4, 96, 28, 145, 84, 42, 180, 0, 110]
abbrev dktX0_sue_2 : List UInt8 := dkwX0_sue_2 ++ dktX0_sue_3
def dkwX0_sue_1 : List UInt8 := [16, 253, 172, 42, 180, 0, 110, 180, 0, 63, 5, 42, 180, 0, 110, 180, 0, 73, 104, 27, 145, 84, 42]
abbrev dktX0_sue_1 : List UInt8 := dkwX0_sue_1 ++ dktX0_sue_2
def dkwX0_sue_0 : List UInt8 := [42, 27, 28, 182, 0, 232, 154, 0, 5, 2, 172, 42, 180, 0, 110, 180, 0, 73, 16, 6, 160, 0, 6]
abbrev dktX0_sue_0 : List UInt8 := dkwX0_sue_0 ++ dktX0_sue_1
theorem dksX0_sue_0 : cX0_sue.data.toList.drop 0 = dktX0_sue_0 := by decide +kernel
theorem dksX0_sue_1 : cX0_sue.data.toList.drop 23 = dktX0_sue_1 := dk_seg dksX0_sue_0 23 rfl rfl
theorem dksX0_sue_2 : cX0_sue.data.toList.drop 46 = dktX0_sue_2 := dk_seg dksX0_sue_1 23 rfl rfl
theorem dksX0_sue_3 : cX0_sue.data.toList.drop 70 = dktX0_sue_3 := dk_seg dksX0_sue_2 24 rfl rfl
theorem dX0_sue_0 : decode cX0_sue 0 = .ok (.aload_n 0, 1) := dk_42 (dk_at dksX0_sue_0 0 rfl rfl)
theorem dX0_sue_1 : decode cX0_sue 1 = .ok (.iload_n 1, 1) := dk_27 (dk_at dksX0_sue_0 1 rfl rfl)
theorem dX0_sue_2 : decode cX0_sue 2 = .ok (.iload_n 2, 1) := dk_28 (dk_at dksX0_sue_0 2 rfl rfl)
theorem dX0_sue_3 : decode cX0_sue 3 = .ok (.invokevirtual 232, 3) := dk_182 0 232 (dk_at dksX0_sue_0 3 rfl rfl)
theorem dX0_sue_6 : decode cX0_sue 6 = .ok (.ifCond .ne 5, 3) := dk_154 0 5 (dk_at dksX0_sue_0 6 rfl rfl)
theorem dX0_sue_9 : decode cX0_sue 9 = .ok (.iconst (-1), 1) := dk_2 (dk_at dksX0_sue_0 9 rfl rfl)
theorem dX0_sue_10 : decode cX0_sue 10 = .ok (.ireturn, 1) := dk_172 (dk_at dksX0_sue_0 10 rfl rfl)
theorem dX0_sue_11 : decode cX0_sue 11 = .ok (.aload_n 0, 1) := dk_42 (dk_at dksX0_sue_0 11 rfl rfl)
theorem dX0_sue_12 : decode cX0_sue 12 = .ok (.getfield 110, 3) := dk_180 0 110 (dk_at dksX0_sue_0 12 rfl rfl)
theorem dX0_sue_15 : decode cX0_sue 15 = .ok (.getfield 73, 3) := dk_180 0 73 (dk_at dksX0_sue_0 15 rfl rfl)
theorem dX0_sue_18 : decode cX0_sue 18 = .ok (.bipush 6, 2) := dk_16 6 (dk_at dksX0_sue_0 18 rfl rfl)
theorem dX0_sue_20 : decode cX0_sue 20 = .ok (.if_icmp .ne 6, 3) := dk_160 0 6 (dk_at dksX0_sue_0 20 rfl rfl)
theorem dX0_sue_23 : decode cX0_sue 23 = .ok (.bipush (-3), 2) := dk_16 253 (dk_at dksX0_sue_1 0 rfl rfl)
theorem dX0_sue_25 : decode cX0_sue 25 = .ok (.ireturn, 1) := dk_172 (dk_at dksX0_sue_1 2 rfl rfl)
theorem dX0_sue_26 : decode cX0_sue 26 = .ok (.aload_n 0, 1) := dk_42 (dk_at dksX0_sue_1 3 rfl rfl)
theorem dX0_sue_27 : decode cX0_sue 27 = .ok (.getfield 110, 3) := dk_180 0 110 (dk_at dksX0_sue_1 4 rfl rfl)
theorem dX0_sue_30 : decode cX0_sue 30 = .ok (.getfield 63, 3) := dk_180 0 63 (dk_at dksX0_sue_1 7 rfl rfl)
theorem dX0_sue_33 : decode cX0_sue 33 = .ok (.iconst 2, 1) := dk_5 (dk_at dksX0_sue_1 10 rfl rfl)
theorem dX0_sue_34 : decode cX0_sue 34 = .ok (.aload_n 0, 1) := dk_42 (dk_at dksX0_sue_1 11 rfl rfl)
theorem dX0_sue_35 : decode cX0_sue 35 = .ok (.getfield 110, 3) := dk_180 0 110 (dk_at dksX0_sue_1 12 rfl rfl)
theorem dX0_sue_38 : decode cX0_sue 38 = .ok (.getfield 73, 3) := dk_180 0 73 (dk_at dksX0_sue_1 15 rfl rfl)
theorem dX0_sue_41 : decode cX0_sue 41 = .ok (.imul, 1) := dk_104 (dk_at dksX0_sue_1 18 rfl rfl)
theorem dX0_sue_42 : decode cX0_sue 42 = .ok (.iload_n 1, 1) := dk_27 (dk_at dksX0_sue_1 19 rfl rfl)
theorem dX0_sue_43 : decode cX0_sue 43 = .ok (.i2b, 1) := dk_145 (dk_at dksX0_sue_1 20 rfl rfl)
theorem dX0_sue_44 : decode cX0_sue 44 = .ok (.bastore, 1) := dk_84 (dk_at dksX0_sue_1 21 rfl rfl)
theorem dX0_sue_45 : decode cX0_sue 45 = .ok (.aload_n 0, 1) := dk_42 (dk_at dksX0_sue_1 22 rfl rfl)
theorem dX0_sue_46 : decode cX0_sue 46 = .ok (.getfield 110, 3) := dk_180 0 110 (dk_at dksX0_sue_2 0 rfl rfl)
theorem dX0_sue_49 : decode cX0_sue 49 = .ok (.getfield 63, 3) := dk_180 0 63 (dk_at dksX0_sue_2 3 rfl rfl)
theorem dX0_sue_52 : decode cX0_sue 52 = .ok (.iconst 2, 1) := dk_5 (dk_at dksX0_sue_2 6 rfl rfl)
theorem dX0_sue_53 : decode cX0_sue 53 = .ok (.aload_n 0, 1) := dk_42 (dk_at dksX0_sue_2 7 rfl rfl)
theorem dX0_sue_54 : decode cX0_sue 54 = .ok (.getfield 110, 3) := dk_180 0 110 (dk_at dksX0_sue_2 8 rfl rfl)
theorem dX0_sue_57 : decode cX0_sue 57 = .ok (.getfield 73, 3) := dk_180 0 73 (dk_at dksX0_sue_2 11 rfl rfl)
theorem dX0_sue_60 : decode cX0_sue 60 = .ok (.imul, 1) := dk_104 (dk_at dksX0_sue_2 14 rfl rfl)
theorem dX0_sue_61 : decode cX0_sue 61 = .ok (.iconst 1, 1) := dk_4 (dk_at dksX0_sue_2 15 rfl rfl)
theorem dX0_sue_62 : decode cX0_sue 62 = .ok (.iadd, 1) := dk_96 (dk_at dksX0_sue_2 16 rfl rfl)
theorem dX0_sue_63 : decode cX0_sue 63 = .ok (.iload_n 2, 1) := dk_28 (dk_at dksX0_sue_2 17 rfl rfl)
theorem dX0_sue_64 : decode cX0_sue 64 = .ok (.i2b, 1) := dk_145 (dk_at dksX0_sue_2 18 rfl rfl)
theorem dX0_sue_65 : decode cX0_sue 65 = .ok (.bastore, 1) := dk_84 (dk_at dksX0_sue_2 19 rfl rfl)
theorem dX0_sue_66 : decode cX0_sue 66 = .ok (.aload_n 0, 1) := dk_42 (dk_at dksX0_sue_2 20 rfl rfl)
theorem dX0_sue_67 : decode cX0_sue 67 = .ok (.getfield 110, 3) := dk_180 0 110 (dk_at dksX0_sue_2 21 rfl rfl)
theorem dX0_sue_70 : decode cX0_sue 70 = .ok (.dup, 1) := dk_89 (dk_at dksX0_sue_3 0 rfl rfl)
theorem dX0_sue_71 : decode cX0_sue 71 = .ok (.getfield 73, 3) := dk_180 0 73 (dk_at dksX0_sue_3 1 rfl rfl)
theorem dX0_sue_74 : decode cX0_sue 74 = .ok (.iconst 1, 1) := dk_4 (dk_at dksX0_sue_3 4 rfl rfl)
theorem dX0_sue_75 : decode cX0_sue 75 = .ok (.iadd, 1) := dk_96 (dk_at dksX0_sue_3 5 rfl rfl)
theorem dX0_sue_76 : decode cX0_sue 76 = .ok (.putfield 73, 3) := dk_181 0 73 (dk_at dksX0_sue_3 6 rfl rfl)
theorem dX0_sue_79 : decode cX0_sue 79 = .ok (.aload_n 0, 1) := dk_42 (dk_at dksX0_sue_3 9 rfl rfl)
theorem dX0_sue_80 : decode cX0_sue 80 = .ok (.getfield 110, 3) := dk_180 0 110 (dk_at dksX0_sue_3 10 rfl rfl)
theorem dX0_sue_83 : decode cX0_sue 83 = .ok (.getfield 73, 3) := dk_180 0 73 (dk_at dksX0_sue_3 13 rfl rfl)
theorem dX0_sue_86 : decode cX0_sue 86 = .ok (.ireturn, 1) := dk_172 (dk_at dksX0_sue_3 16 rfl rfl)
abbrev cX0_isRun : ByteArray := prog_1_method_20_code
def yX0_isRun : MethodName := ⟨RX0, "isRun", "(II)Z"⟩
def dkwX0_isRun_0 : List UInt8 := [42, 27, 182, 0, 190, 153, 0, 14, 28, 184, 0, 193, 153, 0, 7, 4, 167, 0, 4, 3, 172]
abbrev dktX0_isRun_0 : List UInt8 := dkwX0_isRun_0 ++ []
theorem dksX0_isRun_0 : cX0_isRun.data.toList.drop 0 = dktX0_isRun_0 := by decide +kernel
theorem dX0_isRun_0 : decode cX0_isRun 0 = .ok (.aload_n 0, 1) := dk_42 (dk_at dksX0_isRun_0 0 rfl rfl)
theorem dX0_isRun_1 : decode cX0_isRun 1 = .ok (.iload_n 1, 1) := dk_27 (dk_at dksX0_isRun_0 1 rfl rfl)
theorem dX0_isRun_2 : decode cX0_isRun 2 = .ok (.invokevirtual 190, 3) := dk_182 0 190 (dk_at dksX0_isRun_0 2 rfl rfl)
theorem dX0_isRun_5 : decode cX0_isRun 5 = .ok (.ifCond .eq 14, 3) := dk_153 0 14 (dk_at dksX0_isRun_0 5 rfl rfl)
theorem dX0_isRun_8 : decode cX0_isRun 8 = .ok (.iload_n 2, 1) := dk_28 (dk_at dksX0_isRun_0 8 rfl rfl)
theorem dX0_isRun_9 : decode cX0_isRun 9 = .ok (.invokestatic 193, 3) := dk_184 0 193 (dk_at dksX0_isRun_0 9 rfl rfl)
theorem dX0_isRun_12 : decode cX0_isRun 12 = .ok (.ifCond .eq 7, 3) := dk_153 0 7 (dk_at dksX0_isRun_0 12 rfl rfl)
theorem dX0_isRun_15 : decode cX0_isRun 15 = .ok (.iconst 1, 1) := dk_4 (dk_at dksX0_isRun_0 15 rfl rfl)
theorem dX0_isRun_16 : decode cX0_isRun 16 = .ok (.goto 4, 3) := dk_167 0 4 (dk_at dksX0_isRun_0 16 rfl rfl)
theorem dX0_isRun_19 : decode cX0_isRun 19 = .ok (.iconst 0, 1) := dk_3 (dk_at dksX0_isRun_0 19 rfl rfl)
theorem dX0_isRun_20 : decode cX0_isRun 20 = .ok (.ireturn, 1) := dk_172 (dk_at dksX0_isRun_0 20 rfl rfl)
abbrev cX0_isColumn : ByteArray := prog_1_method_16_code
def yX0_isColumn : MethodName := ⟨RX0, "isColumn", "(I)Z"⟩
def dkwX0_isColumn_0 : List UInt8 := [26, 133, 9, 20, 0, 180, 184, 0, 139, 172]
abbrev dktX0_isColumn_0 : List UInt8 := dkwX0_isColumn_0 ++ []
theorem dksX0_isColumn_0 : cX0_isColumn.data.toList.drop 0 = dktX0_isColumn_0 := by decide +kernel
theorem dX0_isColumn_0 : decode cX0_isColumn 0 = .ok (.iload_n 0, 1) := dk_26 (dk_at dksX0_isColumn_0 0 rfl rfl)
theorem dX0_isColumn_1 : decode cX0_isColumn 1 = .ok (.i2l, 1) := dk_133 (dk_at dksX0_isColumn_0 1 rfl rfl)
theorem dX0_isColumn_2 : decode cX0_isColumn 2 = .ok (.lconst 0, 1) := dk_9 (dk_at dksX0_isColumn_0 2 rfl rfl)
theorem dX0_isColumn_3 : decode cX0_isColumn 3 = .ok (.ldc2_w 180, 3) := dk_20 0 180 (dk_at dksX0_isColumn_0 3 rfl rfl)
theorem dX0_isColumn_6 : decode cX0_isColumn 6 = .ok (.invokestatic 139, 3) := dk_184 0 139 (dk_at dksX0_isColumn_0 6 rfl rfl)
theorem dX0_isColumn_9 : decode cX0_isColumn 9 = .ok (.ireturn, 1) := dk_172 (dk_at dksX0_isColumn_0 9 rfl rfl)
abbrev cX0_drop : ByteArray := prog_1_method_34_code
def yX0_drop : MethodName := ⟨RX0, "drop", "(I)I"⟩
def dkwX0_drop_1 : List UInt8 := [180, 0, 73, 61, 42, 180, 0, 110, 27, 181, 0, 73, 28, 172]
abbrev dktX0_drop_1 : List UInt8 := dkwX0_drop_1 ++ []
def dkwX0_drop_0 : List UInt8 := [27, 133, 9, 42, 180, 0, 110, 180, 0, 73, 133, 184, 0, 139, 154, 0, 5, 2, 172, 42, 180, 0, 110]
abbrev dktX0_drop_0 : List UInt8 := dkwX0_drop_0 ++ dktX0_drop_1
theorem dksX0_drop_0 : cX0_drop.data.toList.drop 0 = dktX0_drop_0 := by decide +kernel
theorem dksX0_drop_1 : cX0_drop.data.toList.drop 23 = dktX0_drop_1 := dk_seg dksX0_drop_0 23 rfl rfl
theorem dX0_drop_0 : decode cX0_drop 0 = .ok (.iload_n 1, 1) := dk_27 (dk_at dksX0_drop_0 0 rfl rfl)
theorem dX0_drop_1 : decode cX0_drop 1 = .ok (.i2l, 1) := dk_133 (dk_at dksX0_drop_0 1 rfl rfl)
theorem dX0_drop_2 : decode cX0_drop 2 = .ok (.lconst 0, 1) := dk_9 (dk_at dksX0_drop_0 2 rfl rfl)
theorem dX0_drop_3 : decode cX0_drop 3 = .ok (.aload_n 0, 1) := dk_42 (dk_at dksX0_drop_0 3 rfl rfl)
theorem dX0_drop_4 : decode cX0_drop 4 = .ok (.getfield 110, 3) := dk_180 0 110 (dk_at dksX0_drop_0 4 rfl rfl)
theorem dX0_drop_7 : decode cX0_drop 7 = .ok (.getfield 73, 3) := dk_180 0 73 (dk_at dksX0_drop_0 7 rfl rfl)
theorem dX0_drop_10 : decode cX0_drop 10 = .ok (.i2l, 1) := dk_133 (dk_at dksX0_drop_0 10 rfl rfl)
theorem dX0_drop_11 : decode cX0_drop 11 = .ok (.invokestatic 139, 3) := dk_184 0 139 (dk_at dksX0_drop_0 11 rfl rfl)
theorem dX0_drop_14 : decode cX0_drop 14 = .ok (.ifCond .ne 5, 3) := dk_154 0 5 (dk_at dksX0_drop_0 14 rfl rfl)
theorem dX0_drop_17 : decode cX0_drop 17 = .ok (.iconst (-1), 1) := dk_2 (dk_at dksX0_drop_0 17 rfl rfl)
theorem dX0_drop_18 : decode cX0_drop 18 = .ok (.ireturn, 1) := dk_172 (dk_at dksX0_drop_0 18 rfl rfl)
theorem dX0_drop_19 : decode cX0_drop 19 = .ok (.aload_n 0, 1) := dk_42 (dk_at dksX0_drop_0 19 rfl rfl)
theorem dX0_drop_20 : decode cX0_drop 20 = .ok (.getfield 110, 3) := dk_180 0 110 (dk_at dksX0_drop_0 20 rfl rfl)
theorem dX0_drop_23 : decode cX0_drop 23 = .ok (.getfield 73, 3) := dk_180 0 73 (dk_at dksX0_drop_1 0 rfl rfl)
theorem dX0_drop_26 : decode cX0_drop 26 = .ok (.istore_n 2, 1) := dk_61 (dk_at dksX0_drop_1 3 rfl rfl)
theorem dX0_drop_27 : decode cX0_drop 27 = .ok (.aload_n 0, 1) := dk_42 (dk_at dksX0_drop_1 4 rfl rfl)
theorem dX0_drop_28 : decode cX0_drop 28 = .ok (.getfield 110, 3) := dk_180 0 110 (dk_at dksX0_drop_1 5 rfl rfl)
theorem dX0_drop_31 : decode cX0_drop 31 = .ok (.iload_n 1, 1) := dk_27 (dk_at dksX0_drop_1 8 rfl rfl)
theorem dX0_drop_32 : decode cX0_drop 32 = .ok (.putfield 73, 3) := dk_181 0 73 (dk_at dksX0_drop_1 9 rfl rfl)
theorem dX0_drop_35 : decode cX0_drop 35 = .ok (.iload_n 2, 1) := dk_28 (dk_at dksX0_drop_1 12 rfl rfl)
theorem dX0_drop_36 : decode cX0_drop 36 = .ok (.ireturn, 1) := dk_172 (dk_at dksX0_drop_1 13 rfl rfl)
abbrev cX0_run : ByteArray := prog_1_method_35_code
def yX0_run : MethodName := ⟨RX0, "run", "(III)I"⟩
def dkwX0_run_4 : List UInt8 := [42, 180, 0, 32, 153, 0, 7, 4, 167, 0, 4, 3, 172]
abbrev dktX0_run_4 : List UInt8 := dkwX0_run_4 ++ []
def dkwX0_run_3 : List UInt8 := [42, 180, 0, 22, 172, 42, 42, 180, 0, 110, 182, 0, 80, 172, 42, 180, 0, 26, 172, 42, 180, 0, 29, 172]
abbrev dktX0_run_3 : List UInt8 := dkwX0_run_3 ++ dktX0_run_4
def dkwX0_run_2 : List UInt8 := [170, 0, 0, 0, 53, 0, 0, 0, 0, 0, 0, 0, 3, 0, 0, 0, 29, 0, 0, 0, 34, 0, 0, 0, 43, 0, 0, 0, 48]
abbrev dktX0_run_2 : List UInt8 := dkwX0_run_2 ++ dktX0_run_3
def dkwX0_run_1 : List UInt8 := [42, 180, 0, 110, 27, 28, 3, 182, 0, 66, 29]
abbrev dktX0_run_1 : List UInt8 := dkwX0_run_1 ++ dktX0_run_2
def dkwX0_run_0 : List UInt8 := [42, 27, 28, 182, 0, 232, 153, 0, 15, 29, 133, 9, 20, 0, 235, 184, 0, 139, 154, 0, 5, 2, 172, 42]
abbrev dktX0_run_0 : List UInt8 := dkwX0_run_0 ++ dktX0_run_1
theorem dksX0_run_0 : cX0_run.data.toList.drop 0 = dktX0_run_0 := by decide +kernel
theorem dksX0_run_1 : cX0_run.data.toList.drop 24 = dktX0_run_1 := dk_seg dksX0_run_0 24 rfl rfl
theorem dksX0_run_2 : cX0_run.data.toList.drop 35 = dktX0_run_2 := dk_seg dksX0_run_1 11 rfl rfl
theorem dksX0_run_3 : cX0_run.data.toList.drop 64 = dktX0_run_3 := dk_seg dksX0_run_2 29 rfl rfl
theorem dksX0_run_4 : cX0_run.data.toList.drop 88 = dktX0_run_4 := dk_seg dksX0_run_3 24 rfl rfl
theorem dX0_run_0 : decode cX0_run 0 = .ok (.aload_n 0, 1) := dk_42 (dk_at dksX0_run_0 0 rfl rfl)
theorem dX0_run_1 : decode cX0_run 1 = .ok (.iload_n 1, 1) := dk_27 (dk_at dksX0_run_0 1 rfl rfl)
theorem dX0_run_2 : decode cX0_run 2 = .ok (.iload_n 2, 1) := dk_28 (dk_at dksX0_run_0 2 rfl rfl)
theorem dX0_run_3 : decode cX0_run 3 = .ok (.invokevirtual 232, 3) := dk_182 0 232 (dk_at dksX0_run_0 3 rfl rfl)
theorem dX0_run_6 : decode cX0_run 6 = .ok (.ifCond .eq 15, 3) := dk_153 0 15 (dk_at dksX0_run_0 6 rfl rfl)
theorem dX0_run_9 : decode cX0_run 9 = .ok (.iload_n 3, 1) := dk_29 (dk_at dksX0_run_0 9 rfl rfl)
theorem dX0_run_10 : decode cX0_run 10 = .ok (.i2l, 1) := dk_133 (dk_at dksX0_run_0 10 rfl rfl)
theorem dX0_run_11 : decode cX0_run 11 = .ok (.lconst 0, 1) := dk_9 (dk_at dksX0_run_0 11 rfl rfl)
theorem dX0_run_12 : decode cX0_run 12 = .ok (.ldc2_w 235, 3) := dk_20 0 235 (dk_at dksX0_run_0 12 rfl rfl)
theorem dX0_run_15 : decode cX0_run 15 = .ok (.invokestatic 139, 3) := dk_184 0 139 (dk_at dksX0_run_0 15 rfl rfl)
theorem dX0_run_18 : decode cX0_run 18 = .ok (.ifCond .ne 5, 3) := dk_154 0 5 (dk_at dksX0_run_0 18 rfl rfl)
theorem dX0_run_21 : decode cX0_run 21 = .ok (.iconst (-1), 1) := dk_2 (dk_at dksX0_run_0 21 rfl rfl)
theorem dX0_run_22 : decode cX0_run 22 = .ok (.ireturn, 1) := dk_172 (dk_at dksX0_run_0 22 rfl rfl)
theorem dX0_run_23 : decode cX0_run 23 = .ok (.aload_n 0, 1) := dk_42 (dk_at dksX0_run_0 23 rfl rfl)
theorem dX0_run_24 : decode cX0_run 24 = .ok (.aload_n 0, 1) := dk_42 (dk_at dksX0_run_1 0 rfl rfl)
theorem dX0_run_25 : decode cX0_run 25 = .ok (.getfield 110, 3) := dk_180 0 110 (dk_at dksX0_run_1 1 rfl rfl)
theorem dX0_run_28 : decode cX0_run 28 = .ok (.iload_n 1, 1) := dk_27 (dk_at dksX0_run_1 4 rfl rfl)
theorem dX0_run_29 : decode cX0_run 29 = .ok (.iload_n 2, 1) := dk_28 (dk_at dksX0_run_1 5 rfl rfl)
theorem dX0_run_30 : decode cX0_run 30 = .ok (.iconst 0, 1) := dk_3 (dk_at dksX0_run_1 6 rfl rfl)
theorem dX0_run_31 : decode cX0_run 31 = .ok (.invokevirtual 66, 3) := dk_182 0 66 (dk_at dksX0_run_1 7 rfl rfl)
theorem dX0_run_34 : decode cX0_run 34 = .ok (.iload_n 3, 1) := dk_29 (dk_at dksX0_run_1 10 rfl rfl)
theorem dX0_run_35 : decode cX0_run 35 = .ok (.tableswitch 53 0 3 #[29, 34, 43, 48], 29) := by decide +kernel
theorem dX0_run_64 : decode cX0_run 64 = .ok (.aload_n 0, 1) := dk_42 (dk_at dksX0_run_3 0 rfl rfl)
theorem dX0_run_65 : decode cX0_run 65 = .ok (.getfield 22, 3) := dk_180 0 22 (dk_at dksX0_run_3 1 rfl rfl)
theorem dX0_run_68 : decode cX0_run 68 = .ok (.ireturn, 1) := dk_172 (dk_at dksX0_run_3 4 rfl rfl)
theorem dX0_run_69 : decode cX0_run 69 = .ok (.aload_n 0, 1) := dk_42 (dk_at dksX0_run_3 5 rfl rfl)
theorem dX0_run_70 : decode cX0_run 70 = .ok (.aload_n 0, 1) := dk_42 (dk_at dksX0_run_3 6 rfl rfl)
theorem dX0_run_71 : decode cX0_run 71 = .ok (.getfield 110, 3) := dk_180 0 110 (dk_at dksX0_run_3 7 rfl rfl)
theorem dX0_run_74 : decode cX0_run 74 = .ok (.invokevirtual 80, 3) := dk_182 0 80 (dk_at dksX0_run_3 10 rfl rfl)
theorem dX0_run_77 : decode cX0_run 77 = .ok (.ireturn, 1) := dk_172 (dk_at dksX0_run_3 13 rfl rfl)
theorem dX0_run_78 : decode cX0_run 78 = .ok (.aload_n 0, 1) := dk_42 (dk_at dksX0_run_3 14 rfl rfl)
theorem dX0_run_79 : decode cX0_run 79 = .ok (.getfield 26, 3) := dk_180 0 26 (dk_at dksX0_run_3 15 rfl rfl)
theorem dX0_run_82 : decode cX0_run 82 = .ok (.ireturn, 1) := dk_172 (dk_at dksX0_run_3 18 rfl rfl)
theorem dX0_run_83 : decode cX0_run 83 = .ok (.aload_n 0, 1) := dk_42 (dk_at dksX0_run_3 19 rfl rfl)
theorem dX0_run_84 : decode cX0_run 84 = .ok (.getfield 29, 3) := dk_180 0 29 (dk_at dksX0_run_3 20 rfl rfl)
theorem dX0_run_87 : decode cX0_run 87 = .ok (.ireturn, 1) := dk_172 (dk_at dksX0_run_3 23 rfl rfl)
theorem dX0_run_88 : decode cX0_run 88 = .ok (.aload_n 0, 1) := dk_42 (dk_at dksX0_run_4 0 rfl rfl)
theorem dX0_run_89 : decode cX0_run 89 = .ok (.getfield 32, 3) := dk_180 0 32 (dk_at dksX0_run_4 1 rfl rfl)
theorem dX0_run_92 : decode cX0_run 92 = .ok (.ifCond .eq 7, 3) := dk_153 0 7 (dk_at dksX0_run_4 4 rfl rfl)
theorem dX0_run_95 : decode cX0_run 95 = .ok (.iconst 1, 1) := dk_4 (dk_at dksX0_run_4 7 rfl rfl)
theorem dX0_run_96 : decode cX0_run 96 = .ok (.goto 4, 3) := dk_167 0 4 (dk_at dksX0_run_4 8 rfl rfl)
theorem dX0_run_99 : decode cX0_run 99 = .ok (.iconst 0, 1) := dk_3 (dk_at dksX0_run_4 11 rfl rfl)
theorem dX0_run_100 : decode cX0_run 100 = .ok (.ireturn, 1) := dk_172 (dk_at dksX0_run_4 12 rfl rfl)
abbrev cX0_way : ByteArray := prog_1_method_36_code
def yX0_way : MethodName := ⟨RX0, "way", "(III)I"⟩
def dkwX0_way_1 : List UInt8 := [42, 180, 0, 110, 27, 28, 3, 182, 0, 66, 42, 180, 0, 40, 29, 51, 172]
abbrev dktX0_way_1 : List UInt8 := dkwX0_way_1 ++ []
def dkwX0_way_0 : List UInt8 := [42, 27, 28, 182, 0, 232, 153, 0, 15, 29, 133, 9, 20, 0, 222, 184, 0, 139, 154, 0, 5, 2, 172, 42]
abbrev dktX0_way_0 : List UInt8 := dkwX0_way_0 ++ dktX0_way_1
theorem dksX0_way_0 : cX0_way.data.toList.drop 0 = dktX0_way_0 := by decide +kernel
theorem dksX0_way_1 : cX0_way.data.toList.drop 24 = dktX0_way_1 := dk_seg dksX0_way_0 24 rfl rfl
theorem dX0_way_0 : decode cX0_way 0 = .ok (.aload_n 0, 1) := dk_42 (dk_at dksX0_way_0 0 rfl rfl)
theorem dX0_way_1 : decode cX0_way 1 = .ok (.iload_n 1, 1) := dk_27 (dk_at dksX0_way_0 1 rfl rfl)
theorem dX0_way_2 : decode cX0_way 2 = .ok (.iload_n 2, 1) := dk_28 (dk_at dksX0_way_0 2 rfl rfl)
theorem dX0_way_3 : decode cX0_way 3 = .ok (.invokevirtual 232, 3) := dk_182 0 232 (dk_at dksX0_way_0 3 rfl rfl)
theorem dX0_way_6 : decode cX0_way 6 = .ok (.ifCond .eq 15, 3) := dk_153 0 15 (dk_at dksX0_way_0 6 rfl rfl)
theorem dX0_way_9 : decode cX0_way 9 = .ok (.iload_n 3, 1) := dk_29 (dk_at dksX0_way_0 9 rfl rfl)
theorem dX0_way_10 : decode cX0_way 10 = .ok (.i2l, 1) := dk_133 (dk_at dksX0_way_0 10 rfl rfl)
theorem dX0_way_11 : decode cX0_way 11 = .ok (.lconst 0, 1) := dk_9 (dk_at dksX0_way_0 11 rfl rfl)
theorem dX0_way_12 : decode cX0_way 12 = .ok (.ldc2_w 222, 3) := dk_20 0 222 (dk_at dksX0_way_0 12 rfl rfl)
theorem dX0_way_15 : decode cX0_way 15 = .ok (.invokestatic 139, 3) := dk_184 0 139 (dk_at dksX0_way_0 15 rfl rfl)
theorem dX0_way_18 : decode cX0_way 18 = .ok (.ifCond .ne 5, 3) := dk_154 0 5 (dk_at dksX0_way_0 18 rfl rfl)
theorem dX0_way_21 : decode cX0_way 21 = .ok (.iconst (-1), 1) := dk_2 (dk_at dksX0_way_0 21 rfl rfl)
theorem dX0_way_22 : decode cX0_way 22 = .ok (.ireturn, 1) := dk_172 (dk_at dksX0_way_0 22 rfl rfl)
theorem dX0_way_23 : decode cX0_way 23 = .ok (.aload_n 0, 1) := dk_42 (dk_at dksX0_way_0 23 rfl rfl)
theorem dX0_way_24 : decode cX0_way 24 = .ok (.aload_n 0, 1) := dk_42 (dk_at dksX0_way_1 0 rfl rfl)
theorem dX0_way_25 : decode cX0_way 25 = .ok (.getfield 110, 3) := dk_180 0 110 (dk_at dksX0_way_1 1 rfl rfl)
theorem dX0_way_28 : decode cX0_way 28 = .ok (.iload_n 1, 1) := dk_27 (dk_at dksX0_way_1 4 rfl rfl)
theorem dX0_way_29 : decode cX0_way 29 = .ok (.iload_n 2, 1) := dk_28 (dk_at dksX0_way_1 5 rfl rfl)
theorem dX0_way_30 : decode cX0_way 30 = .ok (.iconst 0, 1) := dk_3 (dk_at dksX0_way_1 6 rfl rfl)
theorem dX0_way_31 : decode cX0_way 31 = .ok (.invokevirtual 66, 3) := dk_182 0 66 (dk_at dksX0_way_1 7 rfl rfl)
theorem dX0_way_34 : decode cX0_way 34 = .ok (.aload_n 0, 1) := dk_42 (dk_at dksX0_way_1 10 rfl rfl)
theorem dX0_way_35 : decode cX0_way 35 = .ok (.getfield 40, 3) := dk_180 0 40 (dk_at dksX0_way_1 11 rfl rfl)
theorem dX0_way_38 : decode cX0_way 38 = .ok (.iload_n 3, 1) := dk_29 (dk_at dksX0_way_1 14 rfl rfl)
theorem dX0_way_39 : decode cX0_way 39 = .ok (.baload, 1) := dk_51 (dk_at dksX0_way_1 15 rfl rfl)
theorem dX0_way_40 : decode cX0_way 40 = .ok (.ireturn, 1) := dk_172 (dk_at dksX0_way_1 16 rfl rfl)
abbrev cX0_wins : ByteArray := prog_1_method_37_code
def yX0_wins : MethodName := ⟨RX0, "wins", "(I)I"⟩
def dkwX0_wins_0 : List UInt8 := [27, 184, 0, 219, 153, 0, 15, 42, 42, 180, 0, 110, 27, 182, 0, 84, 167, 0, 4, 2, 172]
abbrev dktX0_wins_0 : List UInt8 := dkwX0_wins_0 ++ []
theorem dksX0_wins_0 : cX0_wins.data.toList.drop 0 = dktX0_wins_0 := by decide +kernel
theorem dX0_wins_0 : decode cX0_wins 0 = .ok (.iload_n 1, 1) := dk_27 (dk_at dksX0_wins_0 0 rfl rfl)
theorem dX0_wins_1 : decode cX0_wins 1 = .ok (.invokestatic 219, 3) := dk_184 0 219 (dk_at dksX0_wins_0 1 rfl rfl)
theorem dX0_wins_4 : decode cX0_wins 4 = .ok (.ifCond .eq 15, 3) := dk_153 0 15 (dk_at dksX0_wins_0 4 rfl rfl)
theorem dX0_wins_7 : decode cX0_wins 7 = .ok (.aload_n 0, 1) := dk_42 (dk_at dksX0_wins_0 7 rfl rfl)
theorem dX0_wins_8 : decode cX0_wins 8 = .ok (.aload_n 0, 1) := dk_42 (dk_at dksX0_wins_0 8 rfl rfl)
theorem dX0_wins_9 : decode cX0_wins 9 = .ok (.getfield 110, 3) := dk_180 0 110 (dk_at dksX0_wins_0 9 rfl rfl)
theorem dX0_wins_12 : decode cX0_wins 12 = .ok (.iload_n 1, 1) := dk_27 (dk_at dksX0_wins_0 12 rfl rfl)
theorem dX0_wins_13 : decode cX0_wins 13 = .ok (.invokevirtual 84, 3) := dk_182 0 84 (dk_at dksX0_wins_0 13 rfl rfl)
theorem dX0_wins_16 : decode cX0_wins 16 = .ok (.goto 4, 3) := dk_167 0 4 (dk_at dksX0_wins_0 16 rfl rfl)
theorem dX0_wins_19 : decode cX0_wins 19 = .ok (.iconst (-1), 1) := dk_2 (dk_at dksX0_wins_0 19 rfl rfl)
theorem dX0_wins_20 : decode cX0_wins 20 = .ok (.ireturn, 1) := dk_172 (dk_at dksX0_wins_0 20 rfl rfl)
abbrev cX0_share : ByteArray := prog_1_method_39_code
def yX0_share : MethodName := ⟨RX0, "share", "(II)I"⟩
def dkwX0_share_1 : List UInt8 := [167, 0, 4, 2, 172]
abbrev dktX0_share_1 : List UInt8 := dkwX0_share_1 ++ []
def dkwX0_share_0 : List UInt8 := [42, 27, 182, 0, 190, 153, 0, 22, 28, 184, 0, 219, 153, 0, 15, 42, 27, 28, 182, 0, 237, 184, 0, 88]
abbrev dktX0_share_0 : List UInt8 := dkwX0_share_0 ++ dktX0_share_1
theorem dksX0_share_0 : cX0_share.data.toList.drop 0 = dktX0_share_0 := by decide +kernel
theorem dksX0_share_1 : cX0_share.data.toList.drop 24 = dktX0_share_1 := dk_seg dksX0_share_0 24 rfl rfl
theorem dX0_share_0 : decode cX0_share 0 = .ok (.aload_n 0, 1) := dk_42 (dk_at dksX0_share_0 0 rfl rfl)
theorem dX0_share_1 : decode cX0_share 1 = .ok (.iload_n 1, 1) := dk_27 (dk_at dksX0_share_0 1 rfl rfl)
theorem dX0_share_2 : decode cX0_share 2 = .ok (.invokevirtual 190, 3) := dk_182 0 190 (dk_at dksX0_share_0 2 rfl rfl)
theorem dX0_share_5 : decode cX0_share 5 = .ok (.ifCond .eq 22, 3) := dk_153 0 22 (dk_at dksX0_share_0 5 rfl rfl)
theorem dX0_share_8 : decode cX0_share 8 = .ok (.iload_n 2, 1) := dk_28 (dk_at dksX0_share_0 8 rfl rfl)
theorem dX0_share_9 : decode cX0_share 9 = .ok (.invokestatic 219, 3) := dk_184 0 219 (dk_at dksX0_share_0 9 rfl rfl)
theorem dX0_share_12 : decode cX0_share 12 = .ok (.ifCond .eq 15, 3) := dk_153 0 15 (dk_at dksX0_share_0 12 rfl rfl)
theorem dX0_share_15 : decode cX0_share 15 = .ok (.aload_n 0, 1) := dk_42 (dk_at dksX0_share_0 15 rfl rfl)
theorem dX0_share_16 : decode cX0_share 16 = .ok (.iload_n 1, 1) := dk_27 (dk_at dksX0_share_0 16 rfl rfl)
theorem dX0_share_17 : decode cX0_share 17 = .ok (.iload_n 2, 1) := dk_28 (dk_at dksX0_share_0 17 rfl rfl)
theorem dX0_share_18 : decode cX0_share 18 = .ok (.invokevirtual 237, 3) := dk_182 0 237 (dk_at dksX0_share_0 18 rfl rfl)
theorem dX0_share_21 : decode cX0_share 21 = .ok (.invokestatic 88, 3) := dk_184 0 88 (dk_at dksX0_share_0 21 rfl rfl)
theorem dX0_share_24 : decode cX0_share 24 = .ok (.goto 4, 3) := dk_167 0 4 (dk_at dksX0_share_1 0 rfl rfl)
theorem dX0_share_27 : decode cX0_share 27 = .ok (.iconst (-1), 1) := dk_2 (dk_at dksX0_share_1 3 rfl rfl)
theorem dX0_share_28 : decode cX0_share 28 = .ok (.ireturn, 1) := dk_172 (dk_at dksX0_share_1 4 rfl rfl)
abbrev cX0_columns : ByteArray := prog_1_method_38_code
def yX0_columns : MethodName := ⟨RX0, "columns", "(II)I"⟩
def dkwX0_columns_2 : List UInt8 := [132, 4, 1, 167, 255, 211, 29, 172]
abbrev dktX0_columns_2 : List UInt8 := dkwX0_columns_2 ++ []
def dkwX0_columns_1 : List UInt8 := [29, 42, 42, 180, 0, 110, 182, 0, 80, 28, 160, 0, 10, 4, 21, 4, 120, 167, 0, 4, 3, 128, 62]
abbrev dktX0_columns_1 : List UInt8 := dkwX0_columns_1 ++ dktX0_columns_2
def dkwX0_columns_0 : List UInt8 := [3, 62, 3, 54, 4, 21, 4, 16, 8, 162, 0, 44, 42, 42, 180, 0, 110, 27, 21, 4, 3, 182, 0, 66]
abbrev dktX0_columns_0 : List UInt8 := dkwX0_columns_0 ++ dktX0_columns_1
theorem dksX0_columns_0 : cX0_columns.data.toList.drop 0 = dktX0_columns_0 := by decide +kernel
theorem dksX0_columns_1 : cX0_columns.data.toList.drop 24 = dktX0_columns_1 := dk_seg dksX0_columns_0 24 rfl rfl
theorem dksX0_columns_2 : cX0_columns.data.toList.drop 47 = dktX0_columns_2 := dk_seg dksX0_columns_1 23 rfl rfl
theorem dX0_columns_0 : decode cX0_columns 0 = .ok (.iconst 0, 1) := dk_3 (dk_at dksX0_columns_0 0 rfl rfl)
theorem dX0_columns_1 : decode cX0_columns 1 = .ok (.istore_n 3, 1) := dk_62 (dk_at dksX0_columns_0 1 rfl rfl)
theorem dX0_columns_2 : decode cX0_columns 2 = .ok (.iconst 0, 1) := dk_3 (dk_at dksX0_columns_0 2 rfl rfl)
theorem dX0_columns_3 : decode cX0_columns 3 = .ok (.istore 4, 2) := dk_54 4 (dk_at dksX0_columns_0 3 rfl rfl)
theorem dX0_columns_5 : decode cX0_columns 5 = .ok (.iload 4, 2) := dk_21 4 (dk_at dksX0_columns_0 5 rfl rfl)
theorem dX0_columns_7 : decode cX0_columns 7 = .ok (.bipush 8, 2) := dk_16 8 (dk_at dksX0_columns_0 7 rfl rfl)
theorem dX0_columns_9 : decode cX0_columns 9 = .ok (.if_icmp .ge 44, 3) := dk_162 0 44 (dk_at dksX0_columns_0 9 rfl rfl)
theorem dX0_columns_12 : decode cX0_columns 12 = .ok (.aload_n 0, 1) := dk_42 (dk_at dksX0_columns_0 12 rfl rfl)
theorem dX0_columns_13 : decode cX0_columns 13 = .ok (.aload_n 0, 1) := dk_42 (dk_at dksX0_columns_0 13 rfl rfl)
theorem dX0_columns_14 : decode cX0_columns 14 = .ok (.getfield 110, 3) := dk_180 0 110 (dk_at dksX0_columns_0 14 rfl rfl)
theorem dX0_columns_17 : decode cX0_columns 17 = .ok (.iload_n 1, 1) := dk_27 (dk_at dksX0_columns_0 17 rfl rfl)
theorem dX0_columns_18 : decode cX0_columns 18 = .ok (.iload 4, 2) := dk_21 4 (dk_at dksX0_columns_0 18 rfl rfl)
theorem dX0_columns_20 : decode cX0_columns 20 = .ok (.iconst 0, 1) := dk_3 (dk_at dksX0_columns_0 20 rfl rfl)
theorem dX0_columns_21 : decode cX0_columns 21 = .ok (.invokevirtual 66, 3) := dk_182 0 66 (dk_at dksX0_columns_0 21 rfl rfl)
theorem dX0_columns_24 : decode cX0_columns 24 = .ok (.iload_n 3, 1) := dk_29 (dk_at dksX0_columns_1 0 rfl rfl)
theorem dX0_columns_25 : decode cX0_columns 25 = .ok (.aload_n 0, 1) := dk_42 (dk_at dksX0_columns_1 1 rfl rfl)
theorem dX0_columns_26 : decode cX0_columns 26 = .ok (.aload_n 0, 1) := dk_42 (dk_at dksX0_columns_1 2 rfl rfl)
theorem dX0_columns_27 : decode cX0_columns 27 = .ok (.getfield 110, 3) := dk_180 0 110 (dk_at dksX0_columns_1 3 rfl rfl)
theorem dX0_columns_30 : decode cX0_columns 30 = .ok (.invokevirtual 80, 3) := dk_182 0 80 (dk_at dksX0_columns_1 6 rfl rfl)
theorem dX0_columns_33 : decode cX0_columns 33 = .ok (.iload_n 2, 1) := dk_28 (dk_at dksX0_columns_1 9 rfl rfl)
theorem dX0_columns_34 : decode cX0_columns 34 = .ok (.if_icmp .ne 10, 3) := dk_160 0 10 (dk_at dksX0_columns_1 10 rfl rfl)
theorem dX0_columns_37 : decode cX0_columns 37 = .ok (.iconst 1, 1) := dk_4 (dk_at dksX0_columns_1 13 rfl rfl)
theorem dX0_columns_38 : decode cX0_columns 38 = .ok (.iload 4, 2) := dk_21 4 (dk_at dksX0_columns_1 14 rfl rfl)
theorem dX0_columns_40 : decode cX0_columns 40 = .ok (.ishl, 1) := dk_120 (dk_at dksX0_columns_1 16 rfl rfl)
theorem dX0_columns_41 : decode cX0_columns 41 = .ok (.goto 4, 3) := dk_167 0 4 (dk_at dksX0_columns_1 17 rfl rfl)
theorem dX0_columns_44 : decode cX0_columns 44 = .ok (.iconst 0, 1) := dk_3 (dk_at dksX0_columns_1 20 rfl rfl)
theorem dX0_columns_45 : decode cX0_columns 45 = .ok (.ior, 1) := dk_128 (dk_at dksX0_columns_1 21 rfl rfl)
theorem dX0_columns_46 : decode cX0_columns 46 = .ok (.istore_n 3, 1) := dk_62 (dk_at dksX0_columns_1 22 rfl rfl)
theorem dX0_columns_47 : decode cX0_columns 47 = .ok (.iinc 4 1, 3) := dk_132 4 1 (dk_at dksX0_columns_2 0 rfl rfl)
theorem dX0_columns_50 : decode cX0_columns 50 = .ok (.goto (-45), 3) := dk_167 255 211 (dk_at dksX0_columns_2 3 rfl rfl)
theorem dX0_columns_53 : decode cX0_columns 53 = .ok (.iload_n 3, 1) := dk_29 (dk_at dksX0_columns_2 6 rfl rfl)
theorem dX0_columns_54 : decode cX0_columns 54 = .ok (.ireturn, 1) := dk_172 (dk_at dksX0_columns_2 7 rfl rfl)
abbrev cX0_first : ByteArray := prog_1_method_40_code
def yX0_first : MethodName := ⟨RX0, "first", "(II)I"⟩
def dkwX0_first_1 : List UInt8 := [29, 154, 0, 8, 16, 252, 167, 0, 7, 29, 184, 0, 240, 172]
abbrev dktX0_first_1 : List UInt8 := dkwX0_first_1 ++ []
def dkwX0_first_0 : List UInt8 := [42, 27, 182, 0, 190, 153, 0, 10, 28, 184, 0, 219, 154, 0, 5, 2, 172, 42, 27, 28, 182, 0, 237, 62]
abbrev dktX0_first_0 : List UInt8 := dkwX0_first_0 ++ dktX0_first_1
theorem dksX0_first_0 : cX0_first.data.toList.drop 0 = dktX0_first_0 := by decide +kernel
theorem dksX0_first_1 : cX0_first.data.toList.drop 24 = dktX0_first_1 := dk_seg dksX0_first_0 24 rfl rfl
theorem dX0_first_0 : decode cX0_first 0 = .ok (.aload_n 0, 1) := dk_42 (dk_at dksX0_first_0 0 rfl rfl)
theorem dX0_first_1 : decode cX0_first 1 = .ok (.iload_n 1, 1) := dk_27 (dk_at dksX0_first_0 1 rfl rfl)
theorem dX0_first_2 : decode cX0_first 2 = .ok (.invokevirtual 190, 3) := dk_182 0 190 (dk_at dksX0_first_0 2 rfl rfl)
theorem dX0_first_5 : decode cX0_first 5 = .ok (.ifCond .eq 10, 3) := dk_153 0 10 (dk_at dksX0_first_0 5 rfl rfl)
theorem dX0_first_8 : decode cX0_first 8 = .ok (.iload_n 2, 1) := dk_28 (dk_at dksX0_first_0 8 rfl rfl)
theorem dX0_first_9 : decode cX0_first 9 = .ok (.invokestatic 219, 3) := dk_184 0 219 (dk_at dksX0_first_0 9 rfl rfl)
theorem dX0_first_12 : decode cX0_first 12 = .ok (.ifCond .ne 5, 3) := dk_154 0 5 (dk_at dksX0_first_0 12 rfl rfl)
theorem dX0_first_15 : decode cX0_first 15 = .ok (.iconst (-1), 1) := dk_2 (dk_at dksX0_first_0 15 rfl rfl)
theorem dX0_first_16 : decode cX0_first 16 = .ok (.ireturn, 1) := dk_172 (dk_at dksX0_first_0 16 rfl rfl)
theorem dX0_first_17 : decode cX0_first 17 = .ok (.aload_n 0, 1) := dk_42 (dk_at dksX0_first_0 17 rfl rfl)
theorem dX0_first_18 : decode cX0_first 18 = .ok (.iload_n 1, 1) := dk_27 (dk_at dksX0_first_0 18 rfl rfl)
theorem dX0_first_19 : decode cX0_first 19 = .ok (.iload_n 2, 1) := dk_28 (dk_at dksX0_first_0 19 rfl rfl)
theorem dX0_first_20 : decode cX0_first 20 = .ok (.invokevirtual 237, 3) := dk_182 0 237 (dk_at dksX0_first_0 20 rfl rfl)
theorem dX0_first_23 : decode cX0_first 23 = .ok (.istore_n 3, 1) := dk_62 (dk_at dksX0_first_0 23 rfl rfl)
theorem dX0_first_24 : decode cX0_first 24 = .ok (.iload_n 3, 1) := dk_29 (dk_at dksX0_first_1 0 rfl rfl)
theorem dX0_first_25 : decode cX0_first 25 = .ok (.ifCond .ne 8, 3) := dk_154 0 8 (dk_at dksX0_first_1 1 rfl rfl)
theorem dX0_first_28 : decode cX0_first 28 = .ok (.bipush (-4), 2) := dk_16 252 (dk_at dksX0_first_1 4 rfl rfl)
theorem dX0_first_30 : decode cX0_first 30 = .ok (.goto 7, 3) := dk_167 0 7 (dk_at dksX0_first_1 6 rfl rfl)
theorem dX0_first_33 : decode cX0_first 33 = .ok (.iload_n 3, 1) := dk_29 (dk_at dksX0_first_1 9 rfl rfl)
theorem dX0_first_34 : decode cX0_first 34 = .ok (.invokestatic 240, 3) := dk_184 0 240 (dk_at dksX0_first_1 10 rfl rfl)
theorem dX0_first_37 : decode cX0_first 37 = .ok (.ireturn, 1) := dk_172 (dk_at dksX0_first_1 13 rfl rfl)
abbrev cX0_kindly : ByteArray := prog_1_method_41_code
def yX0_kindly : MethodName := ⟨RX0, "kindly", "(III)I"⟩
def dkwX0_kindly_4 : List UInt8 := [54, 4, 132, 5, 1, 167, 255, 195, 21, 4, 172]
abbrev dktX0_kindly_4 : List UInt8 := dkwX0_kindly_4 ++ []
def dkwX0_kindly_3 : List UInt8 := [21, 4, 42, 42, 180, 0, 114, 182, 0, 80, 29, 160, 0, 10, 4, 21, 5, 120, 167, 0, 4, 3, 128]
abbrev dktX0_kindly_3 : List UInt8 := dkwX0_kindly_3 ++ dktX0_kindly_4
def dkwX0_kindly_2 : List UInt8 := [180, 0, 16, 5, 27, 104, 3, 96, 21, 5, 145, 84, 42, 42, 180, 0, 114, 27, 28, 3, 182, 0, 66]
abbrev dktX0_kindly_2 : List UInt8 := dkwX0_kindly_2 ++ dktX0_kindly_3
def dkwX0_kindly_1 : List UInt8 := [180, 0, 114, 42, 180, 0, 110, 182, 0, 160, 3, 54, 5, 21, 5, 7, 162, 0, 61, 42, 180, 0, 114]
abbrev dktX0_kindly_1 : List UInt8 := dkwX0_kindly_1 ++ dktX0_kindly_2
def dkwX0_kindly_0 : List UInt8 := [42, 27, 28, 182, 0, 232, 153, 0, 10, 29, 184, 0, 219, 154, 0, 5, 2, 172, 3, 54, 4, 42]
abbrev dktX0_kindly_0 : List UInt8 := dkwX0_kindly_0 ++ dktX0_kindly_1
theorem dksX0_kindly_0 : cX0_kindly.data.toList.drop 0 = dktX0_kindly_0 := by decide +kernel
theorem dksX0_kindly_1 : cX0_kindly.data.toList.drop 22 = dktX0_kindly_1 := dk_seg dksX0_kindly_0 22 rfl rfl
theorem dksX0_kindly_2 : cX0_kindly.data.toList.drop 45 = dktX0_kindly_2 := dk_seg dksX0_kindly_1 23 rfl rfl
theorem dksX0_kindly_3 : cX0_kindly.data.toList.drop 68 = dktX0_kindly_3 := dk_seg dksX0_kindly_2 23 rfl rfl
theorem dksX0_kindly_4 : cX0_kindly.data.toList.drop 91 = dktX0_kindly_4 := dk_seg dksX0_kindly_3 23 rfl rfl
theorem dX0_kindly_0 : decode cX0_kindly 0 = .ok (.aload_n 0, 1) := dk_42 (dk_at dksX0_kindly_0 0 rfl rfl)
theorem dX0_kindly_1 : decode cX0_kindly 1 = .ok (.iload_n 1, 1) := dk_27 (dk_at dksX0_kindly_0 1 rfl rfl)
theorem dX0_kindly_2 : decode cX0_kindly 2 = .ok (.iload_n 2, 1) := dk_28 (dk_at dksX0_kindly_0 2 rfl rfl)
theorem dX0_kindly_3 : decode cX0_kindly 3 = .ok (.invokevirtual 232, 3) := dk_182 0 232 (dk_at dksX0_kindly_0 3 rfl rfl)
theorem dX0_kindly_6 : decode cX0_kindly 6 = .ok (.ifCond .eq 10, 3) := dk_153 0 10 (dk_at dksX0_kindly_0 6 rfl rfl)
theorem dX0_kindly_9 : decode cX0_kindly 9 = .ok (.iload_n 3, 1) := dk_29 (dk_at dksX0_kindly_0 9 rfl rfl)
theorem dX0_kindly_10 : decode cX0_kindly 10 = .ok (.invokestatic 219, 3) := dk_184 0 219 (dk_at dksX0_kindly_0 10 rfl rfl)
theorem dX0_kindly_13 : decode cX0_kindly 13 = .ok (.ifCond .ne 5, 3) := dk_154 0 5 (dk_at dksX0_kindly_0 13 rfl rfl)
theorem dX0_kindly_16 : decode cX0_kindly 16 = .ok (.iconst (-1), 1) := dk_2 (dk_at dksX0_kindly_0 16 rfl rfl)
theorem dX0_kindly_17 : decode cX0_kindly 17 = .ok (.ireturn, 1) := dk_172 (dk_at dksX0_kindly_0 17 rfl rfl)
theorem dX0_kindly_18 : decode cX0_kindly 18 = .ok (.iconst 0, 1) := dk_3 (dk_at dksX0_kindly_0 18 rfl rfl)
theorem dX0_kindly_19 : decode cX0_kindly 19 = .ok (.istore 4, 2) := dk_54 4 (dk_at dksX0_kindly_0 19 rfl rfl)
theorem dX0_kindly_21 : decode cX0_kindly 21 = .ok (.aload_n 0, 1) := dk_42 (dk_at dksX0_kindly_0 21 rfl rfl)
theorem dX0_kindly_22 : decode cX0_kindly 22 = .ok (.getfield 114, 3) := dk_180 0 114 (dk_at dksX0_kindly_1 0 rfl rfl)
theorem dX0_kindly_25 : decode cX0_kindly 25 = .ok (.aload_n 0, 1) := dk_42 (dk_at dksX0_kindly_1 3 rfl rfl)
theorem dX0_kindly_26 : decode cX0_kindly 26 = .ok (.getfield 110, 3) := dk_180 0 110 (dk_at dksX0_kindly_1 4 rfl rfl)
theorem dX0_kindly_29 : decode cX0_kindly 29 = .ok (.invokevirtual 160, 3) := dk_182 0 160 (dk_at dksX0_kindly_1 7 rfl rfl)
theorem dX0_kindly_32 : decode cX0_kindly 32 = .ok (.iconst 0, 1) := dk_3 (dk_at dksX0_kindly_1 10 rfl rfl)
theorem dX0_kindly_33 : decode cX0_kindly 33 = .ok (.istore 5, 2) := dk_54 5 (dk_at dksX0_kindly_1 11 rfl rfl)
theorem dX0_kindly_35 : decode cX0_kindly 35 = .ok (.iload 5, 2) := dk_21 5 (dk_at dksX0_kindly_1 13 rfl rfl)
theorem dX0_kindly_37 : decode cX0_kindly 37 = .ok (.iconst 4, 1) := dk_7 (dk_at dksX0_kindly_1 15 rfl rfl)
theorem dX0_kindly_38 : decode cX0_kindly 38 = .ok (.if_icmp .ge 61, 3) := dk_162 0 61 (dk_at dksX0_kindly_1 16 rfl rfl)
theorem dX0_kindly_41 : decode cX0_kindly 41 = .ok (.aload_n 0, 1) := dk_42 (dk_at dksX0_kindly_1 19 rfl rfl)
theorem dX0_kindly_42 : decode cX0_kindly 42 = .ok (.getfield 114, 3) := dk_180 0 114 (dk_at dksX0_kindly_1 20 rfl rfl)
theorem dX0_kindly_45 : decode cX0_kindly 45 = .ok (.getfield 16, 3) := dk_180 0 16 (dk_at dksX0_kindly_2 0 rfl rfl)
theorem dX0_kindly_48 : decode cX0_kindly 48 = .ok (.iconst 2, 1) := dk_5 (dk_at dksX0_kindly_2 3 rfl rfl)
theorem dX0_kindly_49 : decode cX0_kindly 49 = .ok (.iload_n 1, 1) := dk_27 (dk_at dksX0_kindly_2 4 rfl rfl)
theorem dX0_kindly_50 : decode cX0_kindly 50 = .ok (.imul, 1) := dk_104 (dk_at dksX0_kindly_2 5 rfl rfl)
theorem dX0_kindly_51 : decode cX0_kindly 51 = .ok (.iconst 0, 1) := dk_3 (dk_at dksX0_kindly_2 6 rfl rfl)
theorem dX0_kindly_52 : decode cX0_kindly 52 = .ok (.iadd, 1) := dk_96 (dk_at dksX0_kindly_2 7 rfl rfl)
theorem dX0_kindly_53 : decode cX0_kindly 53 = .ok (.iload 5, 2) := dk_21 5 (dk_at dksX0_kindly_2 8 rfl rfl)
theorem dX0_kindly_55 : decode cX0_kindly 55 = .ok (.i2b, 1) := dk_145 (dk_at dksX0_kindly_2 10 rfl rfl)
theorem dX0_kindly_56 : decode cX0_kindly 56 = .ok (.bastore, 1) := dk_84 (dk_at dksX0_kindly_2 11 rfl rfl)
theorem dX0_kindly_57 : decode cX0_kindly 57 = .ok (.aload_n 0, 1) := dk_42 (dk_at dksX0_kindly_2 12 rfl rfl)
theorem dX0_kindly_58 : decode cX0_kindly 58 = .ok (.aload_n 0, 1) := dk_42 (dk_at dksX0_kindly_2 13 rfl rfl)
theorem dX0_kindly_59 : decode cX0_kindly 59 = .ok (.getfield 114, 3) := dk_180 0 114 (dk_at dksX0_kindly_2 14 rfl rfl)
theorem dX0_kindly_62 : decode cX0_kindly 62 = .ok (.iload_n 1, 1) := dk_27 (dk_at dksX0_kindly_2 17 rfl rfl)
theorem dX0_kindly_63 : decode cX0_kindly 63 = .ok (.iload_n 2, 1) := dk_28 (dk_at dksX0_kindly_2 18 rfl rfl)
theorem dX0_kindly_64 : decode cX0_kindly 64 = .ok (.iconst 0, 1) := dk_3 (dk_at dksX0_kindly_2 19 rfl rfl)
theorem dX0_kindly_65 : decode cX0_kindly 65 = .ok (.invokevirtual 66, 3) := dk_182 0 66 (dk_at dksX0_kindly_2 20 rfl rfl)
theorem dX0_kindly_68 : decode cX0_kindly 68 = .ok (.iload 4, 2) := dk_21 4 (dk_at dksX0_kindly_3 0 rfl rfl)
theorem dX0_kindly_70 : decode cX0_kindly 70 = .ok (.aload_n 0, 1) := dk_42 (dk_at dksX0_kindly_3 2 rfl rfl)
theorem dX0_kindly_71 : decode cX0_kindly 71 = .ok (.aload_n 0, 1) := dk_42 (dk_at dksX0_kindly_3 3 rfl rfl)
theorem dX0_kindly_72 : decode cX0_kindly 72 = .ok (.getfield 114, 3) := dk_180 0 114 (dk_at dksX0_kindly_3 4 rfl rfl)
theorem dX0_kindly_75 : decode cX0_kindly 75 = .ok (.invokevirtual 80, 3) := dk_182 0 80 (dk_at dksX0_kindly_3 7 rfl rfl)
theorem dX0_kindly_78 : decode cX0_kindly 78 = .ok (.iload_n 3, 1) := dk_29 (dk_at dksX0_kindly_3 10 rfl rfl)
theorem dX0_kindly_79 : decode cX0_kindly 79 = .ok (.if_icmp .ne 10, 3) := dk_160 0 10 (dk_at dksX0_kindly_3 11 rfl rfl)
theorem dX0_kindly_82 : decode cX0_kindly 82 = .ok (.iconst 1, 1) := dk_4 (dk_at dksX0_kindly_3 14 rfl rfl)
theorem dX0_kindly_83 : decode cX0_kindly 83 = .ok (.iload 5, 2) := dk_21 5 (dk_at dksX0_kindly_3 15 rfl rfl)
theorem dX0_kindly_85 : decode cX0_kindly 85 = .ok (.ishl, 1) := dk_120 (dk_at dksX0_kindly_3 17 rfl rfl)
theorem dX0_kindly_86 : decode cX0_kindly 86 = .ok (.goto 4, 3) := dk_167 0 4 (dk_at dksX0_kindly_3 18 rfl rfl)
theorem dX0_kindly_89 : decode cX0_kindly 89 = .ok (.iconst 0, 1) := dk_3 (dk_at dksX0_kindly_3 21 rfl rfl)
theorem dX0_kindly_90 : decode cX0_kindly 90 = .ok (.ior, 1) := dk_128 (dk_at dksX0_kindly_3 22 rfl rfl)
theorem dX0_kindly_91 : decode cX0_kindly 91 = .ok (.istore 4, 2) := dk_54 4 (dk_at dksX0_kindly_4 0 rfl rfl)
theorem dX0_kindly_93 : decode cX0_kindly 93 = .ok (.iinc 5 1, 3) := dk_132 5 1 (dk_at dksX0_kindly_4 2 rfl rfl)
theorem dX0_kindly_96 : decode cX0_kindly 96 = .ok (.goto (-61), 3) := dk_167 255 195 (dk_at dksX0_kindly_4 5 rfl rfl)
theorem dX0_kindly_99 : decode cX0_kindly 99 = .ok (.iload 4, 2) := dk_21 4 (dk_at dksX0_kindly_4 8 rfl rfl)
theorem dX0_kindly_101 : decode cX0_kindly 101 = .ok (.ireturn, 1) := dk_172 (dk_at dksX0_kindly_4 10 rfl rfl)
abbrev cX0_place : ByteArray := prog_1_method_45_code
def yX0_place : MethodName := ⟨RX0, "place", "(II)I"⟩
def dkwX0_place_4 : List UInt8 := [182, 0, 255, 182, 1, 2, 132, 3, 1, 167, 255, 195, 42, 28, 182, 1, 5, 172]
abbrev dktX0_place_4 : List UInt8 := dkwX0_place_4 ++ []
def dkwX0_place_3 : List UInt8 := [180, 0, 110, 182, 0, 160, 42, 180, 0, 114, 29, 27, 182, 0, 224, 42, 29, 42, 42, 180, 0, 114, 27]
abbrev dktX0_place_3 : List UInt8 := dkwX0_place_3 ++ dktX0_place_4
def dkwX0_place_2 : List UInt8 := [184, 0, 213, 153, 0, 48, 42, 180, 0, 110, 29, 182, 0, 216, 153, 0, 37, 42, 180, 0, 114, 42]
abbrev dktX0_place_2 : List UInt8 := dkwX0_place_2 ++ dktX0_place_3
def dkwX0_place_1 : List UInt8 := [16, 7, 160, 0, 6, 16, 253, 172, 42, 2, 182, 0, 252, 3, 62, 29, 16, 100, 162, 0, 61, 29]
abbrev dktX0_place_1 : List UInt8 := dkwX0_place_1 ++ dktX0_place_2
def dkwX0_place_0 : List UInt8 := [27, 184, 0, 219, 153, 0, 10, 28, 184, 0, 249, 154, 0, 5, 2, 172, 42, 180, 0, 110, 180, 0, 184]
abbrev dktX0_place_0 : List UInt8 := dkwX0_place_0 ++ dktX0_place_1
theorem dksX0_place_0 : cX0_place.data.toList.drop 0 = dktX0_place_0 := by decide +kernel
theorem dksX0_place_1 : cX0_place.data.toList.drop 23 = dktX0_place_1 := dk_seg dksX0_place_0 23 rfl rfl
theorem dksX0_place_2 : cX0_place.data.toList.drop 45 = dktX0_place_2 := dk_seg dksX0_place_1 22 rfl rfl
theorem dksX0_place_3 : cX0_place.data.toList.drop 67 = dktX0_place_3 := dk_seg dksX0_place_2 22 rfl rfl
theorem dksX0_place_4 : cX0_place.data.toList.drop 90 = dktX0_place_4 := dk_seg dksX0_place_3 23 rfl rfl
theorem dX0_place_0 : decode cX0_place 0 = .ok (.iload_n 1, 1) := dk_27 (dk_at dksX0_place_0 0 rfl rfl)
theorem dX0_place_1 : decode cX0_place 1 = .ok (.invokestatic 219, 3) := dk_184 0 219 (dk_at dksX0_place_0 1 rfl rfl)
theorem dX0_place_4 : decode cX0_place 4 = .ok (.ifCond .eq 10, 3) := dk_153 0 10 (dk_at dksX0_place_0 4 rfl rfl)
theorem dX0_place_7 : decode cX0_place 7 = .ok (.iload_n 2, 1) := dk_28 (dk_at dksX0_place_0 7 rfl rfl)
theorem dX0_place_8 : decode cX0_place 8 = .ok (.invokestatic 249, 3) := dk_184 0 249 (dk_at dksX0_place_0 8 rfl rfl)
theorem dX0_place_11 : decode cX0_place 11 = .ok (.ifCond .ne 5, 3) := dk_154 0 5 (dk_at dksX0_place_0 11 rfl rfl)
theorem dX0_place_14 : decode cX0_place 14 = .ok (.iconst (-1), 1) := dk_2 (dk_at dksX0_place_0 14 rfl rfl)
theorem dX0_place_15 : decode cX0_place 15 = .ok (.ireturn, 1) := dk_172 (dk_at dksX0_place_0 15 rfl rfl)
theorem dX0_place_16 : decode cX0_place 16 = .ok (.aload_n 0, 1) := dk_42 (dk_at dksX0_place_0 16 rfl rfl)
theorem dX0_place_17 : decode cX0_place 17 = .ok (.getfield 110, 3) := dk_180 0 110 (dk_at dksX0_place_0 17 rfl rfl)
theorem dX0_place_20 : decode cX0_place 20 = .ok (.getfield 184, 3) := dk_180 0 184 (dk_at dksX0_place_0 20 rfl rfl)
theorem dX0_place_23 : decode cX0_place 23 = .ok (.bipush 7, 2) := dk_16 7 (dk_at dksX0_place_1 0 rfl rfl)
theorem dX0_place_25 : decode cX0_place 25 = .ok (.if_icmp .ne 6, 3) := dk_160 0 6 (dk_at dksX0_place_1 2 rfl rfl)
theorem dX0_place_28 : decode cX0_place 28 = .ok (.bipush (-3), 2) := dk_16 253 (dk_at dksX0_place_1 5 rfl rfl)
theorem dX0_place_30 : decode cX0_place 30 = .ok (.ireturn, 1) := dk_172 (dk_at dksX0_place_1 7 rfl rfl)
theorem dX0_place_31 : decode cX0_place 31 = .ok (.aload_n 0, 1) := dk_42 (dk_at dksX0_place_1 8 rfl rfl)
theorem dX0_place_32 : decode cX0_place 32 = .ok (.iconst (-1), 1) := dk_2 (dk_at dksX0_place_1 9 rfl rfl)
theorem dX0_place_33 : decode cX0_place 33 = .ok (.invokevirtual 252, 3) := dk_182 0 252 (dk_at dksX0_place_1 10 rfl rfl)
theorem dX0_place_36 : decode cX0_place 36 = .ok (.iconst 0, 1) := dk_3 (dk_at dksX0_place_1 13 rfl rfl)
theorem dX0_place_37 : decode cX0_place 37 = .ok (.istore_n 3, 1) := dk_62 (dk_at dksX0_place_1 14 rfl rfl)
theorem dX0_place_38 : decode cX0_place 38 = .ok (.iload_n 3, 1) := dk_29 (dk_at dksX0_place_1 15 rfl rfl)
theorem dX0_place_39 : decode cX0_place 39 = .ok (.bipush 100, 2) := dk_16 100 (dk_at dksX0_place_1 16 rfl rfl)
theorem dX0_place_41 : decode cX0_place 41 = .ok (.if_icmp .ge 61, 3) := dk_162 0 61 (dk_at dksX0_place_1 18 rfl rfl)
theorem dX0_place_44 : decode cX0_place 44 = .ok (.iload_n 3, 1) := dk_29 (dk_at dksX0_place_1 21 rfl rfl)
theorem dX0_place_45 : decode cX0_place 45 = .ok (.invokestatic 213, 3) := dk_184 0 213 (dk_at dksX0_place_2 0 rfl rfl)
theorem dX0_place_48 : decode cX0_place 48 = .ok (.ifCond .eq 48, 3) := dk_153 0 48 (dk_at dksX0_place_2 3 rfl rfl)
theorem dX0_place_51 : decode cX0_place 51 = .ok (.aload_n 0, 1) := dk_42 (dk_at dksX0_place_2 6 rfl rfl)
theorem dX0_place_52 : decode cX0_place 52 = .ok (.getfield 110, 3) := dk_180 0 110 (dk_at dksX0_place_2 7 rfl rfl)
theorem dX0_place_55 : decode cX0_place 55 = .ok (.iload_n 3, 1) := dk_29 (dk_at dksX0_place_2 10 rfl rfl)
theorem dX0_place_56 : decode cX0_place 56 = .ok (.invokevirtual 216, 3) := dk_182 0 216 (dk_at dksX0_place_2 11 rfl rfl)
theorem dX0_place_59 : decode cX0_place 59 = .ok (.ifCond .eq 37, 3) := dk_153 0 37 (dk_at dksX0_place_2 14 rfl rfl)
theorem dX0_place_62 : decode cX0_place 62 = .ok (.aload_n 0, 1) := dk_42 (dk_at dksX0_place_2 17 rfl rfl)
theorem dX0_place_63 : decode cX0_place 63 = .ok (.getfield 114, 3) := dk_180 0 114 (dk_at dksX0_place_2 18 rfl rfl)
theorem dX0_place_66 : decode cX0_place 66 = .ok (.aload_n 0, 1) := dk_42 (dk_at dksX0_place_2 21 rfl rfl)
theorem dX0_place_67 : decode cX0_place 67 = .ok (.getfield 110, 3) := dk_180 0 110 (dk_at dksX0_place_3 0 rfl rfl)
theorem dX0_place_70 : decode cX0_place 70 = .ok (.invokevirtual 160, 3) := dk_182 0 160 (dk_at dksX0_place_3 3 rfl rfl)
theorem dX0_place_73 : decode cX0_place 73 = .ok (.aload_n 0, 1) := dk_42 (dk_at dksX0_place_3 6 rfl rfl)
theorem dX0_place_74 : decode cX0_place 74 = .ok (.getfield 114, 3) := dk_180 0 114 (dk_at dksX0_place_3 7 rfl rfl)
theorem dX0_place_77 : decode cX0_place 77 = .ok (.iload_n 3, 1) := dk_29 (dk_at dksX0_place_3 10 rfl rfl)
theorem dX0_place_78 : decode cX0_place 78 = .ok (.iload_n 1, 1) := dk_27 (dk_at dksX0_place_3 11 rfl rfl)
theorem dX0_place_79 : decode cX0_place 79 = .ok (.invokevirtual 224, 3) := dk_182 0 224 (dk_at dksX0_place_3 12 rfl rfl)
theorem dX0_place_82 : decode cX0_place 82 = .ok (.aload_n 0, 1) := dk_42 (dk_at dksX0_place_3 15 rfl rfl)
theorem dX0_place_83 : decode cX0_place 83 = .ok (.iload_n 3, 1) := dk_29 (dk_at dksX0_place_3 16 rfl rfl)
theorem dX0_place_84 : decode cX0_place 84 = .ok (.aload_n 0, 1) := dk_42 (dk_at dksX0_place_3 17 rfl rfl)
theorem dX0_place_85 : decode cX0_place 85 = .ok (.aload_n 0, 1) := dk_42 (dk_at dksX0_place_3 18 rfl rfl)
theorem dX0_place_86 : decode cX0_place 86 = .ok (.getfield 114, 3) := dk_180 0 114 (dk_at dksX0_place_3 19 rfl rfl)
theorem dX0_place_89 : decode cX0_place 89 = .ok (.iload_n 1, 1) := dk_27 (dk_at dksX0_place_3 22 rfl rfl)
theorem dX0_place_90 : decode cX0_place 90 = .ok (.invokevirtual 255, 3) := dk_182 0 255 (dk_at dksX0_place_4 0 rfl rfl)
theorem dX0_place_93 : decode cX0_place 93 = .ok (.invokevirtual 258, 3) := dk_182 1 2 (dk_at dksX0_place_4 3 rfl rfl)
theorem dX0_place_96 : decode cX0_place 96 = .ok (.iinc 3 1, 3) := dk_132 3 1 (dk_at dksX0_place_4 6 rfl rfl)
theorem dX0_place_99 : decode cX0_place 99 = .ok (.goto (-61), 3) := dk_167 255 195 (dk_at dksX0_place_4 9 rfl rfl)
theorem dX0_place_102 : decode cX0_place 102 = .ok (.aload_n 0, 1) := dk_42 (dk_at dksX0_place_4 12 rfl rfl)
theorem dX0_place_103 : decode cX0_place 103 = .ok (.iload_n 2, 1) := dk_28 (dk_at dksX0_place_4 13 rfl rfl)
theorem dX0_place_104 : decode cX0_place 104 = .ok (.invokevirtual 261, 3) := dk_182 1 5 (dk_at dksX0_place_4 14 rfl rfl)
theorem dX0_place_107 : decode cX0_place 107 = .ok (.ireturn, 1) := dk_172 (dk_at dksX0_place_4 17 rfl rfl)
abbrev cX0_isPart : ByteArray := prog_1_method_21_code
def yX0_isPart : MethodName := ⟨RX0, "isPart", "(I)Z"⟩
def dkwX0_isPart_0 : List UInt8 := [26, 133, 9, 10, 184, 0, 139, 172]
abbrev dktX0_isPart_0 : List UInt8 := dkwX0_isPart_0 ++ []
theorem dksX0_isPart_0 : cX0_isPart.data.toList.drop 0 = dktX0_isPart_0 := by decide +kernel
theorem dX0_isPart_0 : decode cX0_isPart 0 = .ok (.iload_n 0, 1) := dk_26 (dk_at dksX0_isPart_0 0 rfl rfl)
theorem dX0_isPart_1 : decode cX0_isPart 1 = .ok (.i2l, 1) := dk_133 (dk_at dksX0_isPart_0 1 rfl rfl)
theorem dX0_isPart_2 : decode cX0_isPart 2 = .ok (.lconst 0, 1) := dk_9 (dk_at dksX0_isPart_0 2 rfl rfl)
theorem dX0_isPart_3 : decode cX0_isPart 3 = .ok (.lconst 1, 1) := dk_10 (dk_at dksX0_isPart_0 3 rfl rfl)
theorem dX0_isPart_4 : decode cX0_isPart 4 = .ok (.invokestatic 139, 3) := dk_184 0 139 (dk_at dksX0_isPart_0 4 rfl rfl)
theorem dX0_isPart_7 : decode cX0_isPart 7 = .ok (.ireturn, 1) := dk_172 (dk_at dksX0_isPart_0 7 rfl rfl)
abbrev cX0_startsJudging : ByteArray := prog_1_method_42_code
def yX0_startsJudging : MethodName := ⟨RX0, "startsJudging", "(I)V"⟩
def dkwX0_startsJudging_0 : List UInt8 := [42, 16, 252, 181, 0, 243, 42, 27, 181, 0, 246, 177]
abbrev dktX0_startsJudging_0 : List UInt8 := dkwX0_startsJudging_0 ++ []
theorem dksX0_startsJudging_0 : cX0_startsJudging.data.toList.drop 0 = dktX0_startsJudging_0 := by decide +kernel
theorem dX0_startsJudging_0 : decode cX0_startsJudging 0 = .ok (.aload_n 0, 1) := dk_42 (dk_at dksX0_startsJudging_0 0 rfl rfl)
theorem dX0_startsJudging_1 : decode cX0_startsJudging 1 = .ok (.bipush (-4), 2) := dk_16 252 (dk_at dksX0_startsJudging_0 1 rfl rfl)
theorem dX0_startsJudging_3 : decode cX0_startsJudging 3 = .ok (.putfield 243, 3) := dk_181 0 243 (dk_at dksX0_startsJudging_0 3 rfl rfl)
theorem dX0_startsJudging_6 : decode cX0_startsJudging 6 = .ok (.aload_n 0, 1) := dk_42 (dk_at dksX0_startsJudging_0 6 rfl rfl)
theorem dX0_startsJudging_7 : decode cX0_startsJudging 7 = .ok (.iload_n 1, 1) := dk_27 (dk_at dksX0_startsJudging_0 7 rfl rfl)
theorem dX0_startsJudging_8 : decode cX0_startsJudging 8 = .ok (.putfield 246, 3) := dk_181 0 246 (dk_at dksX0_startsJudging_0 8 rfl rfl)
theorem dX0_startsJudging_11 : decode cX0_startsJudging 11 = .ok (.return_, 1) := dk_177 (dk_at dksX0_startsJudging_0 11 rfl rfl)
abbrev cX0_wonMany : ByteArray := prog_1_method_8_code
def yX0_wonMany : MethodName := ⟨RX0, "wonMany", "(LHedgehogLots$Slope;I)I"⟩
def dkwX0_wonMany_0 : List UInt8 := [42, 43, 28, 182, 0, 84, 184, 0, 88, 172]
abbrev dktX0_wonMany_0 : List UInt8 := dkwX0_wonMany_0 ++ []
theorem dksX0_wonMany_0 : cX0_wonMany.data.toList.drop 0 = dktX0_wonMany_0 := by decide +kernel
theorem dX0_wonMany_0 : decode cX0_wonMany 0 = .ok (.aload_n 0, 1) := dk_42 (dk_at dksX0_wonMany_0 0 rfl rfl)
theorem dX0_wonMany_1 : decode cX0_wonMany 1 = .ok (.aload_n 1, 1) := dk_43 (dk_at dksX0_wonMany_0 1 rfl rfl)
theorem dX0_wonMany_2 : decode cX0_wonMany 2 = .ok (.iload_n 2, 1) := dk_28 (dk_at dksX0_wonMany_0 2 rfl rfl)
theorem dX0_wonMany_3 : decode cX0_wonMany 3 = .ok (.invokevirtual 84, 3) := dk_182 0 84 (dk_at dksX0_wonMany_0 3 rfl rfl)
theorem dX0_wonMany_6 : decode cX0_wonMany 6 = .ok (.invokestatic 88, 3) := dk_184 0 88 (dk_at dksX0_wonMany_0 6 rfl rfl)
theorem dX0_wonMany_9 : decode cX0_wonMany 9 = .ok (.ireturn, 1) := dk_172 (dk_at dksX0_wonMany_0 9 rfl rfl)
abbrev cX0_judges : ByteArray := prog_1_method_43_code
def yX0_judges : MethodName := ⟨RX0, "judges", "(II)V"⟩
def dkwX0_judges_1 : List UInt8 := [180, 0, 246, 28, 184, 0, 9, 181, 0, 246, 177]
abbrev dktX0_judges_1 : List UInt8 := dkwX0_judges_1 ++ []
def dkwX0_judges_0 : List UInt8 := [42, 28, 42, 180, 0, 246, 164, 0, 7, 27, 167, 0, 7, 42, 180, 0, 243, 181, 0, 243, 42, 42]
abbrev dktX0_judges_0 : List UInt8 := dkwX0_judges_0 ++ dktX0_judges_1
theorem dksX0_judges_0 : cX0_judges.data.toList.drop 0 = dktX0_judges_0 := by decide +kernel
theorem dksX0_judges_1 : cX0_judges.data.toList.drop 22 = dktX0_judges_1 := dk_seg dksX0_judges_0 22 rfl rfl
theorem dX0_judges_0 : decode cX0_judges 0 = .ok (.aload_n 0, 1) := dk_42 (dk_at dksX0_judges_0 0 rfl rfl)
theorem dX0_judges_1 : decode cX0_judges 1 = .ok (.iload_n 2, 1) := dk_28 (dk_at dksX0_judges_0 1 rfl rfl)
theorem dX0_judges_2 : decode cX0_judges 2 = .ok (.aload_n 0, 1) := dk_42 (dk_at dksX0_judges_0 2 rfl rfl)
theorem dX0_judges_3 : decode cX0_judges 3 = .ok (.getfield 246, 3) := dk_180 0 246 (dk_at dksX0_judges_0 3 rfl rfl)
theorem dX0_judges_6 : decode cX0_judges 6 = .ok (.if_icmp .le 7, 3) := dk_164 0 7 (dk_at dksX0_judges_0 6 rfl rfl)
theorem dX0_judges_9 : decode cX0_judges 9 = .ok (.iload_n 1, 1) := dk_27 (dk_at dksX0_judges_0 9 rfl rfl)
theorem dX0_judges_10 : decode cX0_judges 10 = .ok (.goto 7, 3) := dk_167 0 7 (dk_at dksX0_judges_0 10 rfl rfl)
theorem dX0_judges_13 : decode cX0_judges 13 = .ok (.aload_n 0, 1) := dk_42 (dk_at dksX0_judges_0 13 rfl rfl)
theorem dX0_judges_14 : decode cX0_judges 14 = .ok (.getfield 243, 3) := dk_180 0 243 (dk_at dksX0_judges_0 14 rfl rfl)
theorem dX0_judges_17 : decode cX0_judges 17 = .ok (.putfield 243, 3) := dk_181 0 243 (dk_at dksX0_judges_0 17 rfl rfl)
theorem dX0_judges_20 : decode cX0_judges 20 = .ok (.aload_n 0, 1) := dk_42 (dk_at dksX0_judges_0 20 rfl rfl)
theorem dX0_judges_21 : decode cX0_judges 21 = .ok (.aload_n 0, 1) := dk_42 (dk_at dksX0_judges_0 21 rfl rfl)
theorem dX0_judges_22 : decode cX0_judges 22 = .ok (.getfield 246, 3) := dk_180 0 246 (dk_at dksX0_judges_1 0 rfl rfl)
theorem dX0_judges_25 : decode cX0_judges 25 = .ok (.iload_n 2, 1) := dk_28 (dk_at dksX0_judges_1 3 rfl rfl)
theorem dX0_judges_26 : decode cX0_judges 26 = .ok (.invokestatic 9, 3) := dk_184 0 9 (dk_at dksX0_judges_1 4 rfl rfl)
theorem dX0_judges_29 : decode cX0_judges 29 = .ok (.putfield 246, 3) := dk_181 0 246 (dk_at dksX0_judges_1 7 rfl rfl)
theorem dX0_judges_32 : decode cX0_judges 32 = .ok (.return_, 1) := dk_177 (dk_at dksX0_judges_1 10 rfl rfl)
abbrev cX0_judged : ByteArray := prog_1_method_44_code
def yX0_judged : MethodName := ⟨RX0, "judged", "(I)I"⟩
def dkwX0_judged_1 : List UInt8 := [167, 0, 7, 42, 180, 0, 246, 172]
abbrev dktX0_judged_1 : List UInt8 := dkwX0_judged_1 ++ []
def dkwX0_judged_0 : List UInt8 := [42, 180, 0, 243, 16, 252, 160, 0, 8, 16, 252, 167, 0, 18, 27, 154, 0, 10, 42, 180, 0, 243]
abbrev dktX0_judged_0 : List UInt8 := dkwX0_judged_0 ++ dktX0_judged_1
theorem dksX0_judged_0 : cX0_judged.data.toList.drop 0 = dktX0_judged_0 := by decide +kernel
theorem dksX0_judged_1 : cX0_judged.data.toList.drop 22 = dktX0_judged_1 := dk_seg dksX0_judged_0 22 rfl rfl
theorem dX0_judged_0 : decode cX0_judged 0 = .ok (.aload_n 0, 1) := dk_42 (dk_at dksX0_judged_0 0 rfl rfl)
theorem dX0_judged_1 : decode cX0_judged 1 = .ok (.getfield 243, 3) := dk_180 0 243 (dk_at dksX0_judged_0 1 rfl rfl)
theorem dX0_judged_4 : decode cX0_judged 4 = .ok (.bipush (-4), 2) := dk_16 252 (dk_at dksX0_judged_0 4 rfl rfl)
theorem dX0_judged_6 : decode cX0_judged 6 = .ok (.if_icmp .ne 8, 3) := dk_160 0 8 (dk_at dksX0_judged_0 6 rfl rfl)
theorem dX0_judged_9 : decode cX0_judged 9 = .ok (.bipush (-4), 2) := dk_16 252 (dk_at dksX0_judged_0 9 rfl rfl)
theorem dX0_judged_11 : decode cX0_judged 11 = .ok (.goto 18, 3) := dk_167 0 18 (dk_at dksX0_judged_0 11 rfl rfl)
theorem dX0_judged_14 : decode cX0_judged 14 = .ok (.iload_n 1, 1) := dk_27 (dk_at dksX0_judged_0 14 rfl rfl)
theorem dX0_judged_15 : decode cX0_judged 15 = .ok (.ifCond .ne 10, 3) := dk_154 0 10 (dk_at dksX0_judged_0 15 rfl rfl)
theorem dX0_judged_18 : decode cX0_judged 18 = .ok (.aload_n 0, 1) := dk_42 (dk_at dksX0_judged_0 18 rfl rfl)
theorem dX0_judged_19 : decode cX0_judged 19 = .ok (.getfield 243, 3) := dk_180 0 243 (dk_at dksX0_judged_0 19 rfl rfl)
theorem dX0_judged_22 : decode cX0_judged 22 = .ok (.goto 7, 3) := dk_167 0 7 (dk_at dksX0_judged_1 0 rfl rfl)
theorem dX0_judged_25 : decode cX0_judged 25 = .ok (.aload_n 0, 1) := dk_42 (dk_at dksX0_judged_1 3 rfl rfl)
theorem dX0_judged_26 : decode cX0_judged 26 = .ok (.getfield 246, 3) := dk_180 0 246 (dk_at dksX0_judged_1 4 rfl rfl)
theorem dX0_judged_29 : decode cX0_judged 29 = .ok (.ireturn, 1) := dk_172 (dk_at dksX0_judged_1 7 rfl rfl)
abbrev cX0_move : ByteArray := prog_1_method_46_code
def yX0_move : MethodName := ⟨RX0, "move", "(II)I"⟩
def dkwX0_move_5 : List UInt8 := [182, 1, 5, 172]
abbrev dktX0_move_5 : List UInt8 := dkwX0_move_5 ++ []
def dkwX0_move_4 : List UInt8 := [180, 0, 110, 180, 0, 70, 27, 51, 182, 0, 255, 182, 1, 2, 132, 3, 1, 167, 255, 183, 42, 28]
abbrev dktX0_move_4 : List UInt8 := dkwX0_move_4 ++ dktX0_move_5
def dkwX0_move_3 : List UInt8 := [153, 0, 36, 42, 180, 0, 114, 180, 0, 207, 27, 29, 145, 84, 42, 29, 42, 42, 180, 0, 114, 42]
abbrev dktX0_move_3 : List UInt8 := dkwX0_move_3 ++ dktX0_move_4
def dkwX0_move_2 : List UInt8 := [153, 0, 60, 42, 180, 0, 110, 180, 0, 207, 27, 51, 29, 159, 0, 14, 42, 180, 0, 110, 29, 182, 0, 216]
abbrev dktX0_move_2 : List UInt8 := dkwX0_move_2 ++ dktX0_move_3
def dkwX0_move_1 : List UInt8 := [180, 0, 114, 42, 180, 0, 110, 182, 0, 160, 3, 62, 29, 16, 100, 162, 0, 73, 29, 184, 0, 213]
abbrev dktX0_move_1 : List UInt8 := dkwX0_move_1 ++ dktX0_move_2
def dkwX0_move_0 : List UInt8 := [42, 27, 182, 0, 202, 153, 0, 10, 28, 184, 0, 249, 154, 0, 5, 2, 172, 42, 2, 182, 0, 252, 42]
abbrev dktX0_move_0 : List UInt8 := dkwX0_move_0 ++ dktX0_move_1
theorem dksX0_move_0 : cX0_move.data.toList.drop 0 = dktX0_move_0 := by decide +kernel
theorem dksX0_move_1 : cX0_move.data.toList.drop 23 = dktX0_move_1 := dk_seg dksX0_move_0 23 rfl rfl
theorem dksX0_move_2 : cX0_move.data.toList.drop 45 = dktX0_move_2 := dk_seg dksX0_move_1 22 rfl rfl
theorem dksX0_move_3 : cX0_move.data.toList.drop 69 = dktX0_move_3 := dk_seg dksX0_move_2 24 rfl rfl
theorem dksX0_move_4 : cX0_move.data.toList.drop 91 = dktX0_move_4 := dk_seg dksX0_move_3 22 rfl rfl
theorem dksX0_move_5 : cX0_move.data.toList.drop 113 = dktX0_move_5 := dk_seg dksX0_move_4 22 rfl rfl
theorem dX0_move_0 : decode cX0_move 0 = .ok (.aload_n 0, 1) := dk_42 (dk_at dksX0_move_0 0 rfl rfl)
theorem dX0_move_1 : decode cX0_move 1 = .ok (.iload_n 1, 1) := dk_27 (dk_at dksX0_move_0 1 rfl rfl)
theorem dX0_move_2 : decode cX0_move 2 = .ok (.invokevirtual 202, 3) := dk_182 0 202 (dk_at dksX0_move_0 2 rfl rfl)
theorem dX0_move_5 : decode cX0_move 5 = .ok (.ifCond .eq 10, 3) := dk_153 0 10 (dk_at dksX0_move_0 5 rfl rfl)
theorem dX0_move_8 : decode cX0_move 8 = .ok (.iload_n 2, 1) := dk_28 (dk_at dksX0_move_0 8 rfl rfl)
theorem dX0_move_9 : decode cX0_move 9 = .ok (.invokestatic 249, 3) := dk_184 0 249 (dk_at dksX0_move_0 9 rfl rfl)
theorem dX0_move_12 : decode cX0_move 12 = .ok (.ifCond .ne 5, 3) := dk_154 0 5 (dk_at dksX0_move_0 12 rfl rfl)
theorem dX0_move_15 : decode cX0_move 15 = .ok (.iconst (-1), 1) := dk_2 (dk_at dksX0_move_0 15 rfl rfl)
theorem dX0_move_16 : decode cX0_move 16 = .ok (.ireturn, 1) := dk_172 (dk_at dksX0_move_0 16 rfl rfl)
theorem dX0_move_17 : decode cX0_move 17 = .ok (.aload_n 0, 1) := dk_42 (dk_at dksX0_move_0 17 rfl rfl)
theorem dX0_move_18 : decode cX0_move 18 = .ok (.iconst (-1), 1) := dk_2 (dk_at dksX0_move_0 18 rfl rfl)
theorem dX0_move_19 : decode cX0_move 19 = .ok (.invokevirtual 252, 3) := dk_182 0 252 (dk_at dksX0_move_0 19 rfl rfl)
theorem dX0_move_22 : decode cX0_move 22 = .ok (.aload_n 0, 1) := dk_42 (dk_at dksX0_move_0 22 rfl rfl)
theorem dX0_move_23 : decode cX0_move 23 = .ok (.getfield 114, 3) := dk_180 0 114 (dk_at dksX0_move_1 0 rfl rfl)
theorem dX0_move_26 : decode cX0_move 26 = .ok (.aload_n 0, 1) := dk_42 (dk_at dksX0_move_1 3 rfl rfl)
theorem dX0_move_27 : decode cX0_move 27 = .ok (.getfield 110, 3) := dk_180 0 110 (dk_at dksX0_move_1 4 rfl rfl)
theorem dX0_move_30 : decode cX0_move 30 = .ok (.invokevirtual 160, 3) := dk_182 0 160 (dk_at dksX0_move_1 7 rfl rfl)
theorem dX0_move_33 : decode cX0_move 33 = .ok (.iconst 0, 1) := dk_3 (dk_at dksX0_move_1 10 rfl rfl)
theorem dX0_move_34 : decode cX0_move 34 = .ok (.istore_n 3, 1) := dk_62 (dk_at dksX0_move_1 11 rfl rfl)
theorem dX0_move_35 : decode cX0_move 35 = .ok (.iload_n 3, 1) := dk_29 (dk_at dksX0_move_1 12 rfl rfl)
theorem dX0_move_36 : decode cX0_move 36 = .ok (.bipush 100, 2) := dk_16 100 (dk_at dksX0_move_1 13 rfl rfl)
theorem dX0_move_38 : decode cX0_move 38 = .ok (.if_icmp .ge 73, 3) := dk_162 0 73 (dk_at dksX0_move_1 15 rfl rfl)
theorem dX0_move_41 : decode cX0_move 41 = .ok (.iload_n 3, 1) := dk_29 (dk_at dksX0_move_1 18 rfl rfl)
theorem dX0_move_42 : decode cX0_move 42 = .ok (.invokestatic 213, 3) := dk_184 0 213 (dk_at dksX0_move_1 19 rfl rfl)
theorem dX0_move_45 : decode cX0_move 45 = .ok (.ifCond .eq 60, 3) := dk_153 0 60 (dk_at dksX0_move_2 0 rfl rfl)
theorem dX0_move_48 : decode cX0_move 48 = .ok (.aload_n 0, 1) := dk_42 (dk_at dksX0_move_2 3 rfl rfl)
theorem dX0_move_49 : decode cX0_move 49 = .ok (.getfield 110, 3) := dk_180 0 110 (dk_at dksX0_move_2 4 rfl rfl)
theorem dX0_move_52 : decode cX0_move 52 = .ok (.getfield 207, 3) := dk_180 0 207 (dk_at dksX0_move_2 7 rfl rfl)
theorem dX0_move_55 : decode cX0_move 55 = .ok (.iload_n 1, 1) := dk_27 (dk_at dksX0_move_2 10 rfl rfl)
theorem dX0_move_56 : decode cX0_move 56 = .ok (.baload, 1) := dk_51 (dk_at dksX0_move_2 11 rfl rfl)
theorem dX0_move_57 : decode cX0_move 57 = .ok (.iload_n 3, 1) := dk_29 (dk_at dksX0_move_2 12 rfl rfl)
theorem dX0_move_58 : decode cX0_move 58 = .ok (.if_icmp .eq 14, 3) := dk_159 0 14 (dk_at dksX0_move_2 13 rfl rfl)
theorem dX0_move_61 : decode cX0_move 61 = .ok (.aload_n 0, 1) := dk_42 (dk_at dksX0_move_2 16 rfl rfl)
theorem dX0_move_62 : decode cX0_move 62 = .ok (.getfield 110, 3) := dk_180 0 110 (dk_at dksX0_move_2 17 rfl rfl)
theorem dX0_move_65 : decode cX0_move 65 = .ok (.iload_n 3, 1) := dk_29 (dk_at dksX0_move_2 20 rfl rfl)
theorem dX0_move_66 : decode cX0_move 66 = .ok (.invokevirtual 216, 3) := dk_182 0 216 (dk_at dksX0_move_2 21 rfl rfl)
theorem dX0_move_69 : decode cX0_move 69 = .ok (.ifCond .eq 36, 3) := dk_153 0 36 (dk_at dksX0_move_3 0 rfl rfl)
theorem dX0_move_72 : decode cX0_move 72 = .ok (.aload_n 0, 1) := dk_42 (dk_at dksX0_move_3 3 rfl rfl)
theorem dX0_move_73 : decode cX0_move 73 = .ok (.getfield 114, 3) := dk_180 0 114 (dk_at dksX0_move_3 4 rfl rfl)
theorem dX0_move_76 : decode cX0_move 76 = .ok (.getfield 207, 3) := dk_180 0 207 (dk_at dksX0_move_3 7 rfl rfl)
theorem dX0_move_79 : decode cX0_move 79 = .ok (.iload_n 1, 1) := dk_27 (dk_at dksX0_move_3 10 rfl rfl)
theorem dX0_move_80 : decode cX0_move 80 = .ok (.iload_n 3, 1) := dk_29 (dk_at dksX0_move_3 11 rfl rfl)
theorem dX0_move_81 : decode cX0_move 81 = .ok (.i2b, 1) := dk_145 (dk_at dksX0_move_3 12 rfl rfl)
theorem dX0_move_82 : decode cX0_move 82 = .ok (.bastore, 1) := dk_84 (dk_at dksX0_move_3 13 rfl rfl)
theorem dX0_move_83 : decode cX0_move 83 = .ok (.aload_n 0, 1) := dk_42 (dk_at dksX0_move_3 14 rfl rfl)
theorem dX0_move_84 : decode cX0_move 84 = .ok (.iload_n 3, 1) := dk_29 (dk_at dksX0_move_3 15 rfl rfl)
theorem dX0_move_85 : decode cX0_move 85 = .ok (.aload_n 0, 1) := dk_42 (dk_at dksX0_move_3 16 rfl rfl)
theorem dX0_move_86 : decode cX0_move 86 = .ok (.aload_n 0, 1) := dk_42 (dk_at dksX0_move_3 17 rfl rfl)
theorem dX0_move_87 : decode cX0_move 87 = .ok (.getfield 114, 3) := dk_180 0 114 (dk_at dksX0_move_3 18 rfl rfl)
theorem dX0_move_90 : decode cX0_move 90 = .ok (.aload_n 0, 1) := dk_42 (dk_at dksX0_move_3 21 rfl rfl)
theorem dX0_move_91 : decode cX0_move 91 = .ok (.getfield 110, 3) := dk_180 0 110 (dk_at dksX0_move_4 0 rfl rfl)
theorem dX0_move_94 : decode cX0_move 94 = .ok (.getfield 70, 3) := dk_180 0 70 (dk_at dksX0_move_4 3 rfl rfl)
theorem dX0_move_97 : decode cX0_move 97 = .ok (.iload_n 1, 1) := dk_27 (dk_at dksX0_move_4 6 rfl rfl)
theorem dX0_move_98 : decode cX0_move 98 = .ok (.baload, 1) := dk_51 (dk_at dksX0_move_4 7 rfl rfl)
theorem dX0_move_99 : decode cX0_move 99 = .ok (.invokevirtual 255, 3) := dk_182 0 255 (dk_at dksX0_move_4 8 rfl rfl)
theorem dX0_move_102 : decode cX0_move 102 = .ok (.invokevirtual 258, 3) := dk_182 1 2 (dk_at dksX0_move_4 11 rfl rfl)
theorem dX0_move_105 : decode cX0_move 105 = .ok (.iinc 3 1, 3) := dk_132 3 1 (dk_at dksX0_move_4 14 rfl rfl)
theorem dX0_move_108 : decode cX0_move 108 = .ok (.goto (-73), 3) := dk_167 255 183 (dk_at dksX0_move_4 17 rfl rfl)
theorem dX0_move_111 : decode cX0_move 111 = .ok (.aload_n 0, 1) := dk_42 (dk_at dksX0_move_4 20 rfl rfl)
theorem dX0_move_112 : decode cX0_move 112 = .ok (.iload_n 2, 1) := dk_28 (dk_at dksX0_move_4 21 rfl rfl)
theorem dX0_move_113 : decode cX0_move 113 = .ok (.invokevirtual 261, 3) := dk_182 1 5 (dk_at dksX0_move_5 0 rfl rfl)
theorem dX0_move_116 : decode cX0_move 116 = .ok (.ireturn, 1) := dk_172 (dk_at dksX0_move_5 3 rfl rfl)
abbrev cX0_bribe : ByteArray := prog_1_method_48_code
def yX0_bribe : MethodName := ⟨RX0, "bribe", "(II)I"⟩
def dkwX0_bribe_5 : List UInt8 := [184, 0, 3, 62, 132, 5, 1, 167, 255, 173, 28, 154, 0, 8, 21, 4, 167, 0, 4, 29, 172]
abbrev dktX0_bribe_5 : List UInt8 := dkwX0_bribe_5 ++ []
def dkwX0_bribe_4 : List UInt8 := [182, 1, 9, 54, 6, 21, 6, 29, 162, 0, 8, 21, 5, 167, 0, 5, 21, 4, 54, 4, 29, 21, 6]
abbrev dktX0_bribe_4 : List UInt8 := dkwX0_bribe_4 ++ dktX0_bribe_5
def dkwX0_bribe_3 : List UInt8 := [42, 180, 0, 110, 182, 0, 160, 42, 180, 0, 114, 21, 5, 182, 0, 228, 42, 42, 180, 0, 114, 27]
abbrev dktX0_bribe_3 : List UInt8 := dkwX0_bribe_3 ++ dktX0_bribe_4
def dkwX0_bribe_2 : List UInt8 := [21, 5, 184, 0, 213, 153, 0, 68, 42, 180, 0, 110, 21, 5, 182, 0, 216, 153, 0, 56, 42, 180, 0, 114]
abbrev dktX0_bribe_2 : List UInt8 := dkwX0_bribe_2 ++ dktX0_bribe_3
def dkwX0_bribe_1 : List UInt8 := [160, 0, 6, 16, 253, 172, 19, 1, 8, 62, 16, 252, 54, 4, 3, 54, 5, 21, 5, 16, 100, 162, 0, 82]
abbrev dktX0_bribe_1 : List UInt8 := dkwX0_bribe_1 ++ dktX0_bribe_2
def dkwX0_bribe_0 : List UInt8 := [27, 184, 0, 219, 153, 0, 10, 28, 184, 0, 249, 154, 0, 5, 2, 172, 42, 180, 0, 110, 180, 0, 196, 7]
abbrev dktX0_bribe_0 : List UInt8 := dkwX0_bribe_0 ++ dktX0_bribe_1
theorem dksX0_bribe_0 : cX0_bribe.data.toList.drop 0 = dktX0_bribe_0 := by decide +kernel
theorem dksX0_bribe_1 : cX0_bribe.data.toList.drop 24 = dktX0_bribe_1 := dk_seg dksX0_bribe_0 24 rfl rfl
theorem dksX0_bribe_2 : cX0_bribe.data.toList.drop 48 = dktX0_bribe_2 := dk_seg dksX0_bribe_1 24 rfl rfl
theorem dksX0_bribe_3 : cX0_bribe.data.toList.drop 72 = dktX0_bribe_3 := dk_seg dksX0_bribe_2 24 rfl rfl
theorem dksX0_bribe_4 : cX0_bribe.data.toList.drop 94 = dktX0_bribe_4 := dk_seg dksX0_bribe_3 22 rfl rfl
theorem dksX0_bribe_5 : cX0_bribe.data.toList.drop 117 = dktX0_bribe_5 := dk_seg dksX0_bribe_4 23 rfl rfl
theorem dX0_bribe_0 : decode cX0_bribe 0 = .ok (.iload_n 1, 1) := dk_27 (dk_at dksX0_bribe_0 0 rfl rfl)
theorem dX0_bribe_1 : decode cX0_bribe 1 = .ok (.invokestatic 219, 3) := dk_184 0 219 (dk_at dksX0_bribe_0 1 rfl rfl)
theorem dX0_bribe_4 : decode cX0_bribe 4 = .ok (.ifCond .eq 10, 3) := dk_153 0 10 (dk_at dksX0_bribe_0 4 rfl rfl)
theorem dX0_bribe_7 : decode cX0_bribe 7 = .ok (.iload_n 2, 1) := dk_28 (dk_at dksX0_bribe_0 7 rfl rfl)
theorem dX0_bribe_8 : decode cX0_bribe 8 = .ok (.invokestatic 249, 3) := dk_184 0 249 (dk_at dksX0_bribe_0 8 rfl rfl)
theorem dX0_bribe_11 : decode cX0_bribe 11 = .ok (.ifCond .ne 5, 3) := dk_154 0 5 (dk_at dksX0_bribe_0 11 rfl rfl)
theorem dX0_bribe_14 : decode cX0_bribe 14 = .ok (.iconst (-1), 1) := dk_2 (dk_at dksX0_bribe_0 14 rfl rfl)
theorem dX0_bribe_15 : decode cX0_bribe 15 = .ok (.ireturn, 1) := dk_172 (dk_at dksX0_bribe_0 15 rfl rfl)
theorem dX0_bribe_16 : decode cX0_bribe 16 = .ok (.aload_n 0, 1) := dk_42 (dk_at dksX0_bribe_0 16 rfl rfl)
theorem dX0_bribe_17 : decode cX0_bribe 17 = .ok (.getfield 110, 3) := dk_180 0 110 (dk_at dksX0_bribe_0 17 rfl rfl)
theorem dX0_bribe_20 : decode cX0_bribe 20 = .ok (.getfield 196, 3) := dk_180 0 196 (dk_at dksX0_bribe_0 20 rfl rfl)
theorem dX0_bribe_23 : decode cX0_bribe 23 = .ok (.iconst 4, 1) := dk_7 (dk_at dksX0_bribe_0 23 rfl rfl)
theorem dX0_bribe_24 : decode cX0_bribe 24 = .ok (.if_icmp .ne 6, 3) := dk_160 0 6 (dk_at dksX0_bribe_1 0 rfl rfl)
theorem dX0_bribe_27 : decode cX0_bribe 27 = .ok (.bipush (-3), 2) := dk_16 253 (dk_at dksX0_bribe_1 3 rfl rfl)
theorem dX0_bribe_29 : decode cX0_bribe 29 = .ok (.ireturn, 1) := dk_172 (dk_at dksX0_bribe_1 5 rfl rfl)
theorem dX0_bribe_30 : decode cX0_bribe 30 = .ok (.ldc_w 264, 3) := dk_19 1 8 (dk_at dksX0_bribe_1 6 rfl rfl)
theorem dX0_bribe_33 : decode cX0_bribe 33 = .ok (.istore_n 3, 1) := dk_62 (dk_at dksX0_bribe_1 9 rfl rfl)
theorem dX0_bribe_34 : decode cX0_bribe 34 = .ok (.bipush (-4), 2) := dk_16 252 (dk_at dksX0_bribe_1 10 rfl rfl)
theorem dX0_bribe_36 : decode cX0_bribe 36 = .ok (.istore 4, 2) := dk_54 4 (dk_at dksX0_bribe_1 12 rfl rfl)
theorem dX0_bribe_38 : decode cX0_bribe 38 = .ok (.iconst 0, 1) := dk_3 (dk_at dksX0_bribe_1 14 rfl rfl)
theorem dX0_bribe_39 : decode cX0_bribe 39 = .ok (.istore 5, 2) := dk_54 5 (dk_at dksX0_bribe_1 15 rfl rfl)
theorem dX0_bribe_41 : decode cX0_bribe 41 = .ok (.iload 5, 2) := dk_21 5 (dk_at dksX0_bribe_1 17 rfl rfl)
theorem dX0_bribe_43 : decode cX0_bribe 43 = .ok (.bipush 100, 2) := dk_16 100 (dk_at dksX0_bribe_1 19 rfl rfl)
theorem dX0_bribe_45 : decode cX0_bribe 45 = .ok (.if_icmp .ge 82, 3) := dk_162 0 82 (dk_at dksX0_bribe_1 21 rfl rfl)
theorem dX0_bribe_48 : decode cX0_bribe 48 = .ok (.iload 5, 2) := dk_21 5 (dk_at dksX0_bribe_2 0 rfl rfl)
theorem dX0_bribe_50 : decode cX0_bribe 50 = .ok (.invokestatic 213, 3) := dk_184 0 213 (dk_at dksX0_bribe_2 2 rfl rfl)
theorem dX0_bribe_53 : decode cX0_bribe 53 = .ok (.ifCond .eq 68, 3) := dk_153 0 68 (dk_at dksX0_bribe_2 5 rfl rfl)
theorem dX0_bribe_56 : decode cX0_bribe 56 = .ok (.aload_n 0, 1) := dk_42 (dk_at dksX0_bribe_2 8 rfl rfl)
theorem dX0_bribe_57 : decode cX0_bribe 57 = .ok (.getfield 110, 3) := dk_180 0 110 (dk_at dksX0_bribe_2 9 rfl rfl)
theorem dX0_bribe_60 : decode cX0_bribe 60 = .ok (.iload 5, 2) := dk_21 5 (dk_at dksX0_bribe_2 12 rfl rfl)
theorem dX0_bribe_62 : decode cX0_bribe 62 = .ok (.invokevirtual 216, 3) := dk_182 0 216 (dk_at dksX0_bribe_2 14 rfl rfl)
theorem dX0_bribe_65 : decode cX0_bribe 65 = .ok (.ifCond .eq 56, 3) := dk_153 0 56 (dk_at dksX0_bribe_2 17 rfl rfl)
theorem dX0_bribe_68 : decode cX0_bribe 68 = .ok (.aload_n 0, 1) := dk_42 (dk_at dksX0_bribe_2 20 rfl rfl)
theorem dX0_bribe_69 : decode cX0_bribe 69 = .ok (.getfield 114, 3) := dk_180 0 114 (dk_at dksX0_bribe_2 21 rfl rfl)
theorem dX0_bribe_72 : decode cX0_bribe 72 = .ok (.aload_n 0, 1) := dk_42 (dk_at dksX0_bribe_3 0 rfl rfl)
theorem dX0_bribe_73 : decode cX0_bribe 73 = .ok (.getfield 110, 3) := dk_180 0 110 (dk_at dksX0_bribe_3 1 rfl rfl)
theorem dX0_bribe_76 : decode cX0_bribe 76 = .ok (.invokevirtual 160, 3) := dk_182 0 160 (dk_at dksX0_bribe_3 4 rfl rfl)
theorem dX0_bribe_79 : decode cX0_bribe 79 = .ok (.aload_n 0, 1) := dk_42 (dk_at dksX0_bribe_3 7 rfl rfl)
theorem dX0_bribe_80 : decode cX0_bribe 80 = .ok (.getfield 114, 3) := dk_180 0 114 (dk_at dksX0_bribe_3 8 rfl rfl)
theorem dX0_bribe_83 : decode cX0_bribe 83 = .ok (.iload 5, 2) := dk_21 5 (dk_at dksX0_bribe_3 11 rfl rfl)
theorem dX0_bribe_85 : decode cX0_bribe 85 = .ok (.invokevirtual 228, 3) := dk_182 0 228 (dk_at dksX0_bribe_3 13 rfl rfl)
theorem dX0_bribe_88 : decode cX0_bribe 88 = .ok (.aload_n 0, 1) := dk_42 (dk_at dksX0_bribe_3 16 rfl rfl)
theorem dX0_bribe_89 : decode cX0_bribe 89 = .ok (.aload_n 0, 1) := dk_42 (dk_at dksX0_bribe_3 17 rfl rfl)
theorem dX0_bribe_90 : decode cX0_bribe 90 = .ok (.getfield 114, 3) := dk_180 0 114 (dk_at dksX0_bribe_3 18 rfl rfl)
theorem dX0_bribe_93 : decode cX0_bribe 93 = .ok (.iload_n 1, 1) := dk_27 (dk_at dksX0_bribe_3 21 rfl rfl)
theorem dX0_bribe_94 : decode cX0_bribe 94 = .ok (.invokevirtual 265, 3) := dk_182 1 9 (dk_at dksX0_bribe_4 0 rfl rfl)
theorem dX0_bribe_97 : decode cX0_bribe 97 = .ok (.istore 6, 2) := dk_54 6 (dk_at dksX0_bribe_4 3 rfl rfl)
theorem dX0_bribe_99 : decode cX0_bribe 99 = .ok (.iload 6, 2) := dk_21 6 (dk_at dksX0_bribe_4 5 rfl rfl)
theorem dX0_bribe_101 : decode cX0_bribe 101 = .ok (.iload_n 3, 1) := dk_29 (dk_at dksX0_bribe_4 7 rfl rfl)
theorem dX0_bribe_102 : decode cX0_bribe 102 = .ok (.if_icmp .ge 8, 3) := dk_162 0 8 (dk_at dksX0_bribe_4 8 rfl rfl)
theorem dX0_bribe_105 : decode cX0_bribe 105 = .ok (.iload 5, 2) := dk_21 5 (dk_at dksX0_bribe_4 11 rfl rfl)
theorem dX0_bribe_107 : decode cX0_bribe 107 = .ok (.goto 5, 3) := dk_167 0 5 (dk_at dksX0_bribe_4 13 rfl rfl)
theorem dX0_bribe_110 : decode cX0_bribe 110 = .ok (.iload 4, 2) := dk_21 4 (dk_at dksX0_bribe_4 16 rfl rfl)
theorem dX0_bribe_112 : decode cX0_bribe 112 = .ok (.istore 4, 2) := dk_54 4 (dk_at dksX0_bribe_4 18 rfl rfl)
theorem dX0_bribe_114 : decode cX0_bribe 114 = .ok (.iload_n 3, 1) := dk_29 (dk_at dksX0_bribe_4 20 rfl rfl)
theorem dX0_bribe_115 : decode cX0_bribe 115 = .ok (.iload 6, 2) := dk_21 6 (dk_at dksX0_bribe_4 21 rfl rfl)
theorem dX0_bribe_117 : decode cX0_bribe 117 = .ok (.invokestatic 3, 3) := dk_184 0 3 (dk_at dksX0_bribe_5 0 rfl rfl)
theorem dX0_bribe_120 : decode cX0_bribe 120 = .ok (.istore_n 3, 1) := dk_62 (dk_at dksX0_bribe_5 3 rfl rfl)
theorem dX0_bribe_121 : decode cX0_bribe 121 = .ok (.iinc 5 1, 3) := dk_132 5 1 (dk_at dksX0_bribe_5 4 rfl rfl)
theorem dX0_bribe_124 : decode cX0_bribe 124 = .ok (.goto (-83), 3) := dk_167 255 173 (dk_at dksX0_bribe_5 7 rfl rfl)
theorem dX0_bribe_127 : decode cX0_bribe 127 = .ok (.iload_n 2, 1) := dk_28 (dk_at dksX0_bribe_5 10 rfl rfl)
theorem dX0_bribe_128 : decode cX0_bribe 128 = .ok (.ifCond .ne 8, 3) := dk_154 0 8 (dk_at dksX0_bribe_5 11 rfl rfl)
theorem dX0_bribe_131 : decode cX0_bribe 131 = .ok (.iload 4, 2) := dk_21 4 (dk_at dksX0_bribe_5 14 rfl rfl)
theorem dX0_bribe_133 : decode cX0_bribe 133 = .ok (.goto 4, 3) := dk_167 0 4 (dk_at dksX0_bribe_5 16 rfl rfl)
theorem dX0_bribe_136 : decode cX0_bribe 136 = .ok (.iload_n 3, 1) := dk_29 (dk_at dksX0_bribe_5 19 rfl rfl)
theorem dX0_bribe_137 : decode cX0_bribe 137 = .ok (.ireturn, 1) := dk_172 (dk_at dksX0_bribe_5 20 rfl rfl)
abbrev cX0_wonByOthers : ByteArray := prog_1_method_47_code
def yX0_wonByOthers : MethodName := ⟨RX0, "wonByOthers", "(LHedgehogLots$Slope;I)I"⟩
def dkwX0_wonByOthers_0 : List UInt8 := [42, 43, 182, 0, 199, 42, 43, 28, 182, 0, 84, 2, 130, 126, 184, 0, 88, 172]
abbrev dktX0_wonByOthers_0 : List UInt8 := dkwX0_wonByOthers_0 ++ []
theorem dksX0_wonByOthers_0 : cX0_wonByOthers.data.toList.drop 0 = dktX0_wonByOthers_0 := by decide +kernel
theorem dX0_wonByOthers_0 : decode cX0_wonByOthers 0 = .ok (.aload_n 0, 1) := dk_42 (dk_at dksX0_wonByOthers_0 0 rfl rfl)
theorem dX0_wonByOthers_1 : decode cX0_wonByOthers 1 = .ok (.aload_n 1, 1) := dk_43 (dk_at dksX0_wonByOthers_0 1 rfl rfl)
theorem dX0_wonByOthers_2 : decode cX0_wonByOthers 2 = .ok (.invokevirtual 199, 3) := dk_182 0 199 (dk_at dksX0_wonByOthers_0 2 rfl rfl)
theorem dX0_wonByOthers_5 : decode cX0_wonByOthers 5 = .ok (.aload_n 0, 1) := dk_42 (dk_at dksX0_wonByOthers_0 5 rfl rfl)
theorem dX0_wonByOthers_6 : decode cX0_wonByOthers 6 = .ok (.aload_n 1, 1) := dk_43 (dk_at dksX0_wonByOthers_0 6 rfl rfl)
theorem dX0_wonByOthers_7 : decode cX0_wonByOthers 7 = .ok (.iload_n 2, 1) := dk_28 (dk_at dksX0_wonByOthers_0 7 rfl rfl)
theorem dX0_wonByOthers_8 : decode cX0_wonByOthers 8 = .ok (.invokevirtual 84, 3) := dk_182 0 84 (dk_at dksX0_wonByOthers_0 8 rfl rfl)
theorem dX0_wonByOthers_11 : decode cX0_wonByOthers 11 = .ok (.iconst (-1), 1) := dk_2 (dk_at dksX0_wonByOthers_0 11 rfl rfl)
theorem dX0_wonByOthers_12 : decode cX0_wonByOthers 12 = .ok (.ixor, 1) := dk_130 (dk_at dksX0_wonByOthers_0 12 rfl rfl)
theorem dX0_wonByOthers_13 : decode cX0_wonByOthers 13 = .ok (.iand, 1) := dk_126 (dk_at dksX0_wonByOthers_0 13 rfl rfl)
theorem dX0_wonByOthers_14 : decode cX0_wonByOthers 14 = .ok (.invokestatic 88, 3) := dk_184 0 88 (dk_at dksX0_wonByOthers_0 14 rfl rfl)
theorem dX0_wonByOthers_17 : decode cX0_wonByOthers 17 = .ok (.ireturn, 1) := dk_172 (dk_at dksX0_wonByOthers_0 17 rfl rfl)
abbrev cX0_need : ByteArray := prog_1_method_49_code
def yX0_need : MethodName := ⟨RX0, "need", "(II)I"⟩
def dkwX0_need_3 : List UInt8 := [167, 255, 210, 16, 252, 172]
abbrev dktX0_need_3 : List UInt8 := dkwX0_need_3 ++ []
def dkwX0_need_2 : List UInt8 := [180, 0, 114, 27, 28, 3, 182, 0, 66, 42, 180, 0, 26, 16, 10, 160, 0, 5, 29, 172, 132, 3, 1]
abbrev dktX0_need_2 : List UInt8 := dkwX0_need_2 ++ dktX0_need_3
def dkwX0_need_1 : List UInt8 := [29, 16, 9, 163, 0, 46, 42, 180, 0, 114, 180, 0, 16, 5, 27, 104, 4, 96, 29, 145, 84, 42, 42]
abbrev dktX0_need_1 : List UInt8 := dkwX0_need_1 ++ dktX0_need_2
def dkwX0_need_0 : List UInt8 := [42, 27, 28, 182, 0, 232, 154, 0, 5, 2, 172, 42, 180, 0, 114, 42, 180, 0, 110, 182, 0, 160, 4, 62]
abbrev dktX0_need_0 : List UInt8 := dkwX0_need_0 ++ dktX0_need_1
theorem dksX0_need_0 : cX0_need.data.toList.drop 0 = dktX0_need_0 := by decide +kernel
theorem dksX0_need_1 : cX0_need.data.toList.drop 24 = dktX0_need_1 := dk_seg dksX0_need_0 24 rfl rfl
theorem dksX0_need_2 : cX0_need.data.toList.drop 47 = dktX0_need_2 := dk_seg dksX0_need_1 23 rfl rfl
theorem dksX0_need_3 : cX0_need.data.toList.drop 70 = dktX0_need_3 := dk_seg dksX0_need_2 23 rfl rfl
theorem dX0_need_0 : decode cX0_need 0 = .ok (.aload_n 0, 1) := dk_42 (dk_at dksX0_need_0 0 rfl rfl)
theorem dX0_need_1 : decode cX0_need 1 = .ok (.iload_n 1, 1) := dk_27 (dk_at dksX0_need_0 1 rfl rfl)
theorem dX0_need_2 : decode cX0_need 2 = .ok (.iload_n 2, 1) := dk_28 (dk_at dksX0_need_0 2 rfl rfl)
theorem dX0_need_3 : decode cX0_need 3 = .ok (.invokevirtual 232, 3) := dk_182 0 232 (dk_at dksX0_need_0 3 rfl rfl)
theorem dX0_need_6 : decode cX0_need 6 = .ok (.ifCond .ne 5, 3) := dk_154 0 5 (dk_at dksX0_need_0 6 rfl rfl)
theorem dX0_need_9 : decode cX0_need 9 = .ok (.iconst (-1), 1) := dk_2 (dk_at dksX0_need_0 9 rfl rfl)
theorem dX0_need_10 : decode cX0_need 10 = .ok (.ireturn, 1) := dk_172 (dk_at dksX0_need_0 10 rfl rfl)
theorem dX0_need_11 : decode cX0_need 11 = .ok (.aload_n 0, 1) := dk_42 (dk_at dksX0_need_0 11 rfl rfl)
theorem dX0_need_12 : decode cX0_need 12 = .ok (.getfield 114, 3) := dk_180 0 114 (dk_at dksX0_need_0 12 rfl rfl)
theorem dX0_need_15 : decode cX0_need 15 = .ok (.aload_n 0, 1) := dk_42 (dk_at dksX0_need_0 15 rfl rfl)
theorem dX0_need_16 : decode cX0_need 16 = .ok (.getfield 110, 3) := dk_180 0 110 (dk_at dksX0_need_0 16 rfl rfl)
theorem dX0_need_19 : decode cX0_need 19 = .ok (.invokevirtual 160, 3) := dk_182 0 160 (dk_at dksX0_need_0 19 rfl rfl)
theorem dX0_need_22 : decode cX0_need 22 = .ok (.iconst 1, 1) := dk_4 (dk_at dksX0_need_0 22 rfl rfl)
theorem dX0_need_23 : decode cX0_need 23 = .ok (.istore_n 3, 1) := dk_62 (dk_at dksX0_need_0 23 rfl rfl)
theorem dX0_need_24 : decode cX0_need 24 = .ok (.iload_n 3, 1) := dk_29 (dk_at dksX0_need_1 0 rfl rfl)
theorem dX0_need_25 : decode cX0_need 25 = .ok (.bipush 9, 2) := dk_16 9 (dk_at dksX0_need_1 1 rfl rfl)
theorem dX0_need_27 : decode cX0_need 27 = .ok (.if_icmp .gt 46, 3) := dk_163 0 46 (dk_at dksX0_need_1 3 rfl rfl)
theorem dX0_need_30 : decode cX0_need 30 = .ok (.aload_n 0, 1) := dk_42 (dk_at dksX0_need_1 6 rfl rfl)
theorem dX0_need_31 : decode cX0_need 31 = .ok (.getfield 114, 3) := dk_180 0 114 (dk_at dksX0_need_1 7 rfl rfl)
theorem dX0_need_34 : decode cX0_need 34 = .ok (.getfield 16, 3) := dk_180 0 16 (dk_at dksX0_need_1 10 rfl rfl)
theorem dX0_need_37 : decode cX0_need 37 = .ok (.iconst 2, 1) := dk_5 (dk_at dksX0_need_1 13 rfl rfl)
theorem dX0_need_38 : decode cX0_need 38 = .ok (.iload_n 1, 1) := dk_27 (dk_at dksX0_need_1 14 rfl rfl)
theorem dX0_need_39 : decode cX0_need 39 = .ok (.imul, 1) := dk_104 (dk_at dksX0_need_1 15 rfl rfl)
theorem dX0_need_40 : decode cX0_need 40 = .ok (.iconst 1, 1) := dk_4 (dk_at dksX0_need_1 16 rfl rfl)
theorem dX0_need_41 : decode cX0_need 41 = .ok (.iadd, 1) := dk_96 (dk_at dksX0_need_1 17 rfl rfl)
theorem dX0_need_42 : decode cX0_need 42 = .ok (.iload_n 3, 1) := dk_29 (dk_at dksX0_need_1 18 rfl rfl)
theorem dX0_need_43 : decode cX0_need 43 = .ok (.i2b, 1) := dk_145 (dk_at dksX0_need_1 19 rfl rfl)
theorem dX0_need_44 : decode cX0_need 44 = .ok (.bastore, 1) := dk_84 (dk_at dksX0_need_1 20 rfl rfl)
theorem dX0_need_45 : decode cX0_need 45 = .ok (.aload_n 0, 1) := dk_42 (dk_at dksX0_need_1 21 rfl rfl)
theorem dX0_need_46 : decode cX0_need 46 = .ok (.aload_n 0, 1) := dk_42 (dk_at dksX0_need_1 22 rfl rfl)
theorem dX0_need_47 : decode cX0_need 47 = .ok (.getfield 114, 3) := dk_180 0 114 (dk_at dksX0_need_2 0 rfl rfl)
theorem dX0_need_50 : decode cX0_need 50 = .ok (.iload_n 1, 1) := dk_27 (dk_at dksX0_need_2 3 rfl rfl)
theorem dX0_need_51 : decode cX0_need 51 = .ok (.iload_n 2, 1) := dk_28 (dk_at dksX0_need_2 4 rfl rfl)
theorem dX0_need_52 : decode cX0_need 52 = .ok (.iconst 0, 1) := dk_3 (dk_at dksX0_need_2 5 rfl rfl)
theorem dX0_need_53 : decode cX0_need 53 = .ok (.invokevirtual 66, 3) := dk_182 0 66 (dk_at dksX0_need_2 6 rfl rfl)
theorem dX0_need_56 : decode cX0_need 56 = .ok (.aload_n 0, 1) := dk_42 (dk_at dksX0_need_2 9 rfl rfl)
theorem dX0_need_57 : decode cX0_need 57 = .ok (.getfield 26, 3) := dk_180 0 26 (dk_at dksX0_need_2 10 rfl rfl)
theorem dX0_need_60 : decode cX0_need 60 = .ok (.bipush 10, 2) := dk_16 10 (dk_at dksX0_need_2 13 rfl rfl)
theorem dX0_need_62 : decode cX0_need 62 = .ok (.if_icmp .ne 5, 3) := dk_160 0 5 (dk_at dksX0_need_2 15 rfl rfl)
theorem dX0_need_65 : decode cX0_need 65 = .ok (.iload_n 3, 1) := dk_29 (dk_at dksX0_need_2 18 rfl rfl)
theorem dX0_need_66 : decode cX0_need 66 = .ok (.ireturn, 1) := dk_172 (dk_at dksX0_need_2 19 rfl rfl)
theorem dX0_need_67 : decode cX0_need 67 = .ok (.iinc 3 1, 3) := dk_132 3 1 (dk_at dksX0_need_2 20 rfl rfl)
theorem dX0_need_70 : decode cX0_need 70 = .ok (.goto (-46), 3) := dk_167 255 210 (dk_at dksX0_need_3 0 rfl rfl)
theorem dX0_need_73 : decode cX0_need 73 = .ok (.bipush (-4), 2) := dk_16 252 (dk_at dksX0_need_3 3 rfl rfl)
theorem dX0_need_75 : decode cX0_need 75 = .ok (.ireturn, 1) := dk_172 (dk_at dksX0_need_3 5 rfl rfl)
abbrev cX0_swap : ByteArray := prog_1_method_50_code
def yX0_swap : MethodName := ⟨RX0, "swap", "(II)I"⟩
def dkwX0_swap_7 : List UInt8 := [167, 255, 138, 132, 3, 1, 167, 255, 116, 42, 28, 182, 1, 5, 172]
abbrev dktX0_swap_7 : List UInt8 := dkwX0_swap_7 ++ []
def dkwX0_swap_6 : List UInt8 := [42, 16, 10, 29, 104, 21, 4, 96, 42, 42, 180, 0, 114, 27, 182, 0, 255, 182, 1, 2, 132, 4, 1]
abbrev dktX0_swap_6 : List UInt8 := dkwX0_swap_6 ++ dktX0_swap_7
def dkwX0_swap_5 : List UInt8 := [167, 0, 16, 21, 6, 21, 4, 160, 0, 7, 29, 167, 0, 5, 21, 6, 145, 84, 132, 5, 1, 167, 255, 190]
abbrev dktX0_swap_5 : List UInt8 := dkwX0_swap_5 ++ dktX0_swap_6
def dkwX0_swap_4 : List UInt8 := [104, 51, 54, 6, 42, 180, 0, 114, 180, 0, 63, 5, 21, 5, 104, 21, 6, 29, 160, 0, 8, 21, 4]
abbrev dktX0_swap_4 : List UInt8 := dkwX0_swap_4 ++ dktX0_swap_5
def dkwX0_swap_3 : List UInt8 := [54, 5, 21, 5, 42, 180, 0, 110, 180, 0, 73, 162, 0, 60, 42, 180, 0, 110, 180, 0, 63, 5, 21, 5]
abbrev dktX0_swap_3 : List UInt8 := dkwX0_swap_3 ++ dktX0_swap_4
def dkwX0_swap_2 : List UInt8 := [21, 4, 42, 180, 0, 110, 180, 0, 187, 162, 0, 112, 42, 180, 0, 114, 42, 180, 0, 110, 182, 0, 160, 3]
abbrev dktX0_swap_2 : List UInt8 := dkwX0_swap_2 ++ dktX0_swap_3
def dkwX0_swap_1 : List UInt8 := [182, 0, 255, 182, 0, 252, 3, 62, 29, 42, 180, 0, 110, 180, 0, 187, 162, 0, 135, 29, 4, 96, 54, 4]
abbrev dktX0_swap_1 : List UInt8 := dkwX0_swap_1 ++ dktX0_swap_2
def dkwX0_swap_0 : List UInt8 := [27, 184, 0, 219, 153, 0, 10, 28, 184, 0, 249, 154, 0, 5, 2, 172, 42, 42, 42, 180, 0, 110, 27]
abbrev dktX0_swap_0 : List UInt8 := dkwX0_swap_0 ++ dktX0_swap_1
theorem dksX0_swap_0 : cX0_swap.data.toList.drop 0 = dktX0_swap_0 := by decide +kernel
theorem dksX0_swap_1 : cX0_swap.data.toList.drop 23 = dktX0_swap_1 := dk_seg dksX0_swap_0 23 rfl rfl
theorem dksX0_swap_2 : cX0_swap.data.toList.drop 47 = dktX0_swap_2 := dk_seg dksX0_swap_1 24 rfl rfl
theorem dksX0_swap_3 : cX0_swap.data.toList.drop 71 = dktX0_swap_3 := dk_seg dksX0_swap_2 24 rfl rfl
theorem dksX0_swap_4 : cX0_swap.data.toList.drop 95 = dktX0_swap_4 := dk_seg dksX0_swap_3 24 rfl rfl
theorem dksX0_swap_5 : cX0_swap.data.toList.drop 118 = dktX0_swap_5 := dk_seg dksX0_swap_4 23 rfl rfl
theorem dksX0_swap_6 : cX0_swap.data.toList.drop 142 = dktX0_swap_6 := dk_seg dksX0_swap_5 24 rfl rfl
theorem dksX0_swap_7 : cX0_swap.data.toList.drop 165 = dktX0_swap_7 := dk_seg dksX0_swap_6 23 rfl rfl
theorem dX0_swap_0 : decode cX0_swap 0 = .ok (.iload_n 1, 1) := dk_27 (dk_at dksX0_swap_0 0 rfl rfl)
theorem dX0_swap_1 : decode cX0_swap 1 = .ok (.invokestatic 219, 3) := dk_184 0 219 (dk_at dksX0_swap_0 1 rfl rfl)
theorem dX0_swap_4 : decode cX0_swap 4 = .ok (.ifCond .eq 10, 3) := dk_153 0 10 (dk_at dksX0_swap_0 4 rfl rfl)
theorem dX0_swap_7 : decode cX0_swap 7 = .ok (.iload_n 2, 1) := dk_28 (dk_at dksX0_swap_0 7 rfl rfl)
theorem dX0_swap_8 : decode cX0_swap 8 = .ok (.invokestatic 249, 3) := dk_184 0 249 (dk_at dksX0_swap_0 8 rfl rfl)
theorem dX0_swap_11 : decode cX0_swap 11 = .ok (.ifCond .ne 5, 3) := dk_154 0 5 (dk_at dksX0_swap_0 11 rfl rfl)
theorem dX0_swap_14 : decode cX0_swap 14 = .ok (.iconst (-1), 1) := dk_2 (dk_at dksX0_swap_0 14 rfl rfl)
theorem dX0_swap_15 : decode cX0_swap 15 = .ok (.ireturn, 1) := dk_172 (dk_at dksX0_swap_0 15 rfl rfl)
theorem dX0_swap_16 : decode cX0_swap 16 = .ok (.aload_n 0, 1) := dk_42 (dk_at dksX0_swap_0 16 rfl rfl)
theorem dX0_swap_17 : decode cX0_swap 17 = .ok (.aload_n 0, 1) := dk_42 (dk_at dksX0_swap_0 17 rfl rfl)
theorem dX0_swap_18 : decode cX0_swap 18 = .ok (.aload_n 0, 1) := dk_42 (dk_at dksX0_swap_0 18 rfl rfl)
theorem dX0_swap_19 : decode cX0_swap 19 = .ok (.getfield 110, 3) := dk_180 0 110 (dk_at dksX0_swap_0 19 rfl rfl)
theorem dX0_swap_22 : decode cX0_swap 22 = .ok (.iload_n 1, 1) := dk_27 (dk_at dksX0_swap_0 22 rfl rfl)
theorem dX0_swap_23 : decode cX0_swap 23 = .ok (.invokevirtual 255, 3) := dk_182 0 255 (dk_at dksX0_swap_1 0 rfl rfl)
theorem dX0_swap_26 : decode cX0_swap 26 = .ok (.invokevirtual 252, 3) := dk_182 0 252 (dk_at dksX0_swap_1 3 rfl rfl)
theorem dX0_swap_29 : decode cX0_swap 29 = .ok (.iconst 0, 1) := dk_3 (dk_at dksX0_swap_1 6 rfl rfl)
theorem dX0_swap_30 : decode cX0_swap 30 = .ok (.istore_n 3, 1) := dk_62 (dk_at dksX0_swap_1 7 rfl rfl)
theorem dX0_swap_31 : decode cX0_swap 31 = .ok (.iload_n 3, 1) := dk_29 (dk_at dksX0_swap_1 8 rfl rfl)
theorem dX0_swap_32 : decode cX0_swap 32 = .ok (.aload_n 0, 1) := dk_42 (dk_at dksX0_swap_1 9 rfl rfl)
theorem dX0_swap_33 : decode cX0_swap 33 = .ok (.getfield 110, 3) := dk_180 0 110 (dk_at dksX0_swap_1 10 rfl rfl)
theorem dX0_swap_36 : decode cX0_swap 36 = .ok (.getfield 187, 3) := dk_180 0 187 (dk_at dksX0_swap_1 13 rfl rfl)
theorem dX0_swap_39 : decode cX0_swap 39 = .ok (.if_icmp .ge 135, 3) := dk_162 0 135 (dk_at dksX0_swap_1 16 rfl rfl)
theorem dX0_swap_42 : decode cX0_swap 42 = .ok (.iload_n 3, 1) := dk_29 (dk_at dksX0_swap_1 19 rfl rfl)
theorem dX0_swap_43 : decode cX0_swap 43 = .ok (.iconst 1, 1) := dk_4 (dk_at dksX0_swap_1 20 rfl rfl)
theorem dX0_swap_44 : decode cX0_swap 44 = .ok (.iadd, 1) := dk_96 (dk_at dksX0_swap_1 21 rfl rfl)
theorem dX0_swap_45 : decode cX0_swap 45 = .ok (.istore 4, 2) := dk_54 4 (dk_at dksX0_swap_1 22 rfl rfl)
theorem dX0_swap_47 : decode cX0_swap 47 = .ok (.iload 4, 2) := dk_21 4 (dk_at dksX0_swap_2 0 rfl rfl)
theorem dX0_swap_49 : decode cX0_swap 49 = .ok (.aload_n 0, 1) := dk_42 (dk_at dksX0_swap_2 2 rfl rfl)
theorem dX0_swap_50 : decode cX0_swap 50 = .ok (.getfield 110, 3) := dk_180 0 110 (dk_at dksX0_swap_2 3 rfl rfl)
theorem dX0_swap_53 : decode cX0_swap 53 = .ok (.getfield 187, 3) := dk_180 0 187 (dk_at dksX0_swap_2 6 rfl rfl)
theorem dX0_swap_56 : decode cX0_swap 56 = .ok (.if_icmp .ge 112, 3) := dk_162 0 112 (dk_at dksX0_swap_2 9 rfl rfl)
theorem dX0_swap_59 : decode cX0_swap 59 = .ok (.aload_n 0, 1) := dk_42 (dk_at dksX0_swap_2 12 rfl rfl)
theorem dX0_swap_60 : decode cX0_swap 60 = .ok (.getfield 114, 3) := dk_180 0 114 (dk_at dksX0_swap_2 13 rfl rfl)
theorem dX0_swap_63 : decode cX0_swap 63 = .ok (.aload_n 0, 1) := dk_42 (dk_at dksX0_swap_2 16 rfl rfl)
theorem dX0_swap_64 : decode cX0_swap 64 = .ok (.getfield 110, 3) := dk_180 0 110 (dk_at dksX0_swap_2 17 rfl rfl)
theorem dX0_swap_67 : decode cX0_swap 67 = .ok (.invokevirtual 160, 3) := dk_182 0 160 (dk_at dksX0_swap_2 20 rfl rfl)
theorem dX0_swap_70 : decode cX0_swap 70 = .ok (.iconst 0, 1) := dk_3 (dk_at dksX0_swap_2 23 rfl rfl)
theorem dX0_swap_71 : decode cX0_swap 71 = .ok (.istore 5, 2) := dk_54 5 (dk_at dksX0_swap_3 0 rfl rfl)
theorem dX0_swap_73 : decode cX0_swap 73 = .ok (.iload 5, 2) := dk_21 5 (dk_at dksX0_swap_3 2 rfl rfl)
theorem dX0_swap_75 : decode cX0_swap 75 = .ok (.aload_n 0, 1) := dk_42 (dk_at dksX0_swap_3 4 rfl rfl)
theorem dX0_swap_76 : decode cX0_swap 76 = .ok (.getfield 110, 3) := dk_180 0 110 (dk_at dksX0_swap_3 5 rfl rfl)
theorem dX0_swap_79 : decode cX0_swap 79 = .ok (.getfield 73, 3) := dk_180 0 73 (dk_at dksX0_swap_3 8 rfl rfl)
theorem dX0_swap_82 : decode cX0_swap 82 = .ok (.if_icmp .ge 60, 3) := dk_162 0 60 (dk_at dksX0_swap_3 11 rfl rfl)
theorem dX0_swap_85 : decode cX0_swap 85 = .ok (.aload_n 0, 1) := dk_42 (dk_at dksX0_swap_3 14 rfl rfl)
theorem dX0_swap_86 : decode cX0_swap 86 = .ok (.getfield 110, 3) := dk_180 0 110 (dk_at dksX0_swap_3 15 rfl rfl)
theorem dX0_swap_89 : decode cX0_swap 89 = .ok (.getfield 63, 3) := dk_180 0 63 (dk_at dksX0_swap_3 18 rfl rfl)
theorem dX0_swap_92 : decode cX0_swap 92 = .ok (.iconst 2, 1) := dk_5 (dk_at dksX0_swap_3 21 rfl rfl)
theorem dX0_swap_93 : decode cX0_swap 93 = .ok (.iload 5, 2) := dk_21 5 (dk_at dksX0_swap_3 22 rfl rfl)
theorem dX0_swap_95 : decode cX0_swap 95 = .ok (.imul, 1) := dk_104 (dk_at dksX0_swap_4 0 rfl rfl)
theorem dX0_swap_96 : decode cX0_swap 96 = .ok (.baload, 1) := dk_51 (dk_at dksX0_swap_4 1 rfl rfl)
theorem dX0_swap_97 : decode cX0_swap 97 = .ok (.istore 6, 2) := dk_54 6 (dk_at dksX0_swap_4 2 rfl rfl)
theorem dX0_swap_99 : decode cX0_swap 99 = .ok (.aload_n 0, 1) := dk_42 (dk_at dksX0_swap_4 4 rfl rfl)
theorem dX0_swap_100 : decode cX0_swap 100 = .ok (.getfield 114, 3) := dk_180 0 114 (dk_at dksX0_swap_4 5 rfl rfl)
theorem dX0_swap_103 : decode cX0_swap 103 = .ok (.getfield 63, 3) := dk_180 0 63 (dk_at dksX0_swap_4 8 rfl rfl)
theorem dX0_swap_106 : decode cX0_swap 106 = .ok (.iconst 2, 1) := dk_5 (dk_at dksX0_swap_4 11 rfl rfl)
theorem dX0_swap_107 : decode cX0_swap 107 = .ok (.iload 5, 2) := dk_21 5 (dk_at dksX0_swap_4 12 rfl rfl)
theorem dX0_swap_109 : decode cX0_swap 109 = .ok (.imul, 1) := dk_104 (dk_at dksX0_swap_4 14 rfl rfl)
theorem dX0_swap_110 : decode cX0_swap 110 = .ok (.iload 6, 2) := dk_21 6 (dk_at dksX0_swap_4 15 rfl rfl)
theorem dX0_swap_112 : decode cX0_swap 112 = .ok (.iload_n 3, 1) := dk_29 (dk_at dksX0_swap_4 17 rfl rfl)
theorem dX0_swap_113 : decode cX0_swap 113 = .ok (.if_icmp .ne 8, 3) := dk_160 0 8 (dk_at dksX0_swap_4 18 rfl rfl)
theorem dX0_swap_116 : decode cX0_swap 116 = .ok (.iload 4, 2) := dk_21 4 (dk_at dksX0_swap_4 21 rfl rfl)
theorem dX0_swap_118 : decode cX0_swap 118 = .ok (.goto 16, 3) := dk_167 0 16 (dk_at dksX0_swap_5 0 rfl rfl)
theorem dX0_swap_121 : decode cX0_swap 121 = .ok (.iload 6, 2) := dk_21 6 (dk_at dksX0_swap_5 3 rfl rfl)
theorem dX0_swap_123 : decode cX0_swap 123 = .ok (.iload 4, 2) := dk_21 4 (dk_at dksX0_swap_5 5 rfl rfl)
theorem dX0_swap_125 : decode cX0_swap 125 = .ok (.if_icmp .ne 7, 3) := dk_160 0 7 (dk_at dksX0_swap_5 7 rfl rfl)
theorem dX0_swap_128 : decode cX0_swap 128 = .ok (.iload_n 3, 1) := dk_29 (dk_at dksX0_swap_5 10 rfl rfl)
theorem dX0_swap_129 : decode cX0_swap 129 = .ok (.goto 5, 3) := dk_167 0 5 (dk_at dksX0_swap_5 11 rfl rfl)
theorem dX0_swap_132 : decode cX0_swap 132 = .ok (.iload 6, 2) := dk_21 6 (dk_at dksX0_swap_5 14 rfl rfl)
theorem dX0_swap_134 : decode cX0_swap 134 = .ok (.i2b, 1) := dk_145 (dk_at dksX0_swap_5 16 rfl rfl)
theorem dX0_swap_135 : decode cX0_swap 135 = .ok (.bastore, 1) := dk_84 (dk_at dksX0_swap_5 17 rfl rfl)
theorem dX0_swap_136 : decode cX0_swap 136 = .ok (.iinc 5 1, 3) := dk_132 5 1 (dk_at dksX0_swap_5 18 rfl rfl)
theorem dX0_swap_139 : decode cX0_swap 139 = .ok (.goto (-66), 3) := dk_167 255 190 (dk_at dksX0_swap_5 21 rfl rfl)
theorem dX0_swap_142 : decode cX0_swap 142 = .ok (.aload_n 0, 1) := dk_42 (dk_at dksX0_swap_6 0 rfl rfl)
theorem dX0_swap_143 : decode cX0_swap 143 = .ok (.bipush 10, 2) := dk_16 10 (dk_at dksX0_swap_6 1 rfl rfl)
theorem dX0_swap_145 : decode cX0_swap 145 = .ok (.iload_n 3, 1) := dk_29 (dk_at dksX0_swap_6 3 rfl rfl)
theorem dX0_swap_146 : decode cX0_swap 146 = .ok (.imul, 1) := dk_104 (dk_at dksX0_swap_6 4 rfl rfl)
theorem dX0_swap_147 : decode cX0_swap 147 = .ok (.iload 4, 2) := dk_21 4 (dk_at dksX0_swap_6 5 rfl rfl)
theorem dX0_swap_149 : decode cX0_swap 149 = .ok (.iadd, 1) := dk_96 (dk_at dksX0_swap_6 7 rfl rfl)
theorem dX0_swap_150 : decode cX0_swap 150 = .ok (.aload_n 0, 1) := dk_42 (dk_at dksX0_swap_6 8 rfl rfl)
theorem dX0_swap_151 : decode cX0_swap 151 = .ok (.aload_n 0, 1) := dk_42 (dk_at dksX0_swap_6 9 rfl rfl)
theorem dX0_swap_152 : decode cX0_swap 152 = .ok (.getfield 114, 3) := dk_180 0 114 (dk_at dksX0_swap_6 10 rfl rfl)
theorem dX0_swap_155 : decode cX0_swap 155 = .ok (.iload_n 1, 1) := dk_27 (dk_at dksX0_swap_6 13 rfl rfl)
theorem dX0_swap_156 : decode cX0_swap 156 = .ok (.invokevirtual 255, 3) := dk_182 0 255 (dk_at dksX0_swap_6 14 rfl rfl)
theorem dX0_swap_159 : decode cX0_swap 159 = .ok (.invokevirtual 258, 3) := dk_182 1 2 (dk_at dksX0_swap_6 17 rfl rfl)
theorem dX0_swap_162 : decode cX0_swap 162 = .ok (.iinc 4 1, 3) := dk_132 4 1 (dk_at dksX0_swap_6 20 rfl rfl)
theorem dX0_swap_165 : decode cX0_swap 165 = .ok (.goto (-118), 3) := dk_167 255 138 (dk_at dksX0_swap_7 0 rfl rfl)
theorem dX0_swap_168 : decode cX0_swap 168 = .ok (.iinc 3 1, 3) := dk_132 3 1 (dk_at dksX0_swap_7 3 rfl rfl)
theorem dX0_swap_171 : decode cX0_swap 171 = .ok (.goto (-140), 3) := dk_167 255 116 (dk_at dksX0_swap_7 6 rfl rfl)
theorem dX0_swap_174 : decode cX0_swap 174 = .ok (.aload_n 0, 1) := dk_42 (dk_at dksX0_swap_7 9 rfl rfl)
theorem dX0_swap_175 : decode cX0_swap 175 = .ok (.iload_n 2, 1) := dk_28 (dk_at dksX0_swap_7 10 rfl rfl)
theorem dX0_swap_176 : decode cX0_swap 176 = .ok (.invokevirtual 261, 3) := dk_182 1 5 (dk_at dksX0_swap_7 11 rfl rfl)
theorem dX0_swap_179 : decode cX0_swap 179 = .ok (.ireturn, 1) := dk_172 (dk_at dksX0_swap_7 14 rfl rfl)
abbrev cX0_pull : ByteArray := prog_1_method_51_code
def yX0_pull : MethodName := ⟨RX0, "pull", "(II)I"⟩
def dkwX0_pull_3 : List UInt8 := [182, 0, 255, 182, 1, 2, 132, 3, 1, 167, 255, 209, 42, 28, 182, 1, 5, 172]
abbrev dktX0_pull_3 : List UInt8 := dkwX0_pull_3 ++ []
def dkwX0_pull_2 : List UInt8 := [180, 0, 110, 182, 0, 160, 42, 180, 0, 114, 29, 182, 1, 12, 42, 29, 42, 42, 180, 0, 114, 27]
abbrev dktX0_pull_2 : List UInt8 := dkwX0_pull_2 ++ dktX0_pull_3
def dkwX0_pull_1 : List UInt8 := [182, 0, 255, 182, 0, 252, 3, 62, 29, 42, 180, 0, 110, 180, 0, 184, 162, 0, 42, 42, 180, 0, 114, 42]
abbrev dktX0_pull_1 : List UInt8 := dkwX0_pull_1 ++ dktX0_pull_2
def dkwX0_pull_0 : List UInt8 := [27, 184, 0, 219, 153, 0, 10, 28, 184, 0, 249, 154, 0, 5, 2, 172, 42, 42, 42, 180, 0, 110, 27]
abbrev dktX0_pull_0 : List UInt8 := dkwX0_pull_0 ++ dktX0_pull_1
theorem dksX0_pull_0 : cX0_pull.data.toList.drop 0 = dktX0_pull_0 := by decide +kernel
theorem dksX0_pull_1 : cX0_pull.data.toList.drop 23 = dktX0_pull_1 := dk_seg dksX0_pull_0 23 rfl rfl
theorem dksX0_pull_2 : cX0_pull.data.toList.drop 47 = dktX0_pull_2 := dk_seg dksX0_pull_1 24 rfl rfl
theorem dksX0_pull_3 : cX0_pull.data.toList.drop 69 = dktX0_pull_3 := dk_seg dksX0_pull_2 22 rfl rfl
theorem dX0_pull_0 : decode cX0_pull 0 = .ok (.iload_n 1, 1) := dk_27 (dk_at dksX0_pull_0 0 rfl rfl)
theorem dX0_pull_1 : decode cX0_pull 1 = .ok (.invokestatic 219, 3) := dk_184 0 219 (dk_at dksX0_pull_0 1 rfl rfl)
theorem dX0_pull_4 : decode cX0_pull 4 = .ok (.ifCond .eq 10, 3) := dk_153 0 10 (dk_at dksX0_pull_0 4 rfl rfl)
theorem dX0_pull_7 : decode cX0_pull 7 = .ok (.iload_n 2, 1) := dk_28 (dk_at dksX0_pull_0 7 rfl rfl)
theorem dX0_pull_8 : decode cX0_pull 8 = .ok (.invokestatic 249, 3) := dk_184 0 249 (dk_at dksX0_pull_0 8 rfl rfl)
theorem dX0_pull_11 : decode cX0_pull 11 = .ok (.ifCond .ne 5, 3) := dk_154 0 5 (dk_at dksX0_pull_0 11 rfl rfl)
theorem dX0_pull_14 : decode cX0_pull 14 = .ok (.iconst (-1), 1) := dk_2 (dk_at dksX0_pull_0 14 rfl rfl)
theorem dX0_pull_15 : decode cX0_pull 15 = .ok (.ireturn, 1) := dk_172 (dk_at dksX0_pull_0 15 rfl rfl)
theorem dX0_pull_16 : decode cX0_pull 16 = .ok (.aload_n 0, 1) := dk_42 (dk_at dksX0_pull_0 16 rfl rfl)
theorem dX0_pull_17 : decode cX0_pull 17 = .ok (.aload_n 0, 1) := dk_42 (dk_at dksX0_pull_0 17 rfl rfl)
theorem dX0_pull_18 : decode cX0_pull 18 = .ok (.aload_n 0, 1) := dk_42 (dk_at dksX0_pull_0 18 rfl rfl)
theorem dX0_pull_19 : decode cX0_pull 19 = .ok (.getfield 110, 3) := dk_180 0 110 (dk_at dksX0_pull_0 19 rfl rfl)
theorem dX0_pull_22 : decode cX0_pull 22 = .ok (.iload_n 1, 1) := dk_27 (dk_at dksX0_pull_0 22 rfl rfl)
theorem dX0_pull_23 : decode cX0_pull 23 = .ok (.invokevirtual 255, 3) := dk_182 0 255 (dk_at dksX0_pull_1 0 rfl rfl)
theorem dX0_pull_26 : decode cX0_pull 26 = .ok (.invokevirtual 252, 3) := dk_182 0 252 (dk_at dksX0_pull_1 3 rfl rfl)
theorem dX0_pull_29 : decode cX0_pull 29 = .ok (.iconst 0, 1) := dk_3 (dk_at dksX0_pull_1 6 rfl rfl)
theorem dX0_pull_30 : decode cX0_pull 30 = .ok (.istore_n 3, 1) := dk_62 (dk_at dksX0_pull_1 7 rfl rfl)
theorem dX0_pull_31 : decode cX0_pull 31 = .ok (.iload_n 3, 1) := dk_29 (dk_at dksX0_pull_1 8 rfl rfl)
theorem dX0_pull_32 : decode cX0_pull 32 = .ok (.aload_n 0, 1) := dk_42 (dk_at dksX0_pull_1 9 rfl rfl)
theorem dX0_pull_33 : decode cX0_pull 33 = .ok (.getfield 110, 3) := dk_180 0 110 (dk_at dksX0_pull_1 10 rfl rfl)
theorem dX0_pull_36 : decode cX0_pull 36 = .ok (.getfield 184, 3) := dk_180 0 184 (dk_at dksX0_pull_1 13 rfl rfl)
theorem dX0_pull_39 : decode cX0_pull 39 = .ok (.if_icmp .ge 42, 3) := dk_162 0 42 (dk_at dksX0_pull_1 16 rfl rfl)
theorem dX0_pull_42 : decode cX0_pull 42 = .ok (.aload_n 0, 1) := dk_42 (dk_at dksX0_pull_1 19 rfl rfl)
theorem dX0_pull_43 : decode cX0_pull 43 = .ok (.getfield 114, 3) := dk_180 0 114 (dk_at dksX0_pull_1 20 rfl rfl)
theorem dX0_pull_46 : decode cX0_pull 46 = .ok (.aload_n 0, 1) := dk_42 (dk_at dksX0_pull_1 23 rfl rfl)
theorem dX0_pull_47 : decode cX0_pull 47 = .ok (.getfield 110, 3) := dk_180 0 110 (dk_at dksX0_pull_2 0 rfl rfl)
theorem dX0_pull_50 : decode cX0_pull 50 = .ok (.invokevirtual 160, 3) := dk_182 0 160 (dk_at dksX0_pull_2 3 rfl rfl)
theorem dX0_pull_53 : decode cX0_pull 53 = .ok (.aload_n 0, 1) := dk_42 (dk_at dksX0_pull_2 6 rfl rfl)
theorem dX0_pull_54 : decode cX0_pull 54 = .ok (.getfield 114, 3) := dk_180 0 114 (dk_at dksX0_pull_2 7 rfl rfl)
theorem dX0_pull_57 : decode cX0_pull 57 = .ok (.iload_n 3, 1) := dk_29 (dk_at dksX0_pull_2 10 rfl rfl)
theorem dX0_pull_58 : decode cX0_pull 58 = .ok (.invokevirtual 268, 3) := dk_182 1 12 (dk_at dksX0_pull_2 11 rfl rfl)
theorem dX0_pull_61 : decode cX0_pull 61 = .ok (.aload_n 0, 1) := dk_42 (dk_at dksX0_pull_2 14 rfl rfl)
theorem dX0_pull_62 : decode cX0_pull 62 = .ok (.iload_n 3, 1) := dk_29 (dk_at dksX0_pull_2 15 rfl rfl)
theorem dX0_pull_63 : decode cX0_pull 63 = .ok (.aload_n 0, 1) := dk_42 (dk_at dksX0_pull_2 16 rfl rfl)
theorem dX0_pull_64 : decode cX0_pull 64 = .ok (.aload_n 0, 1) := dk_42 (dk_at dksX0_pull_2 17 rfl rfl)
theorem dX0_pull_65 : decode cX0_pull 65 = .ok (.getfield 114, 3) := dk_180 0 114 (dk_at dksX0_pull_2 18 rfl rfl)
theorem dX0_pull_68 : decode cX0_pull 68 = .ok (.iload_n 1, 1) := dk_27 (dk_at dksX0_pull_2 21 rfl rfl)
theorem dX0_pull_69 : decode cX0_pull 69 = .ok (.invokevirtual 255, 3) := dk_182 0 255 (dk_at dksX0_pull_3 0 rfl rfl)
theorem dX0_pull_72 : decode cX0_pull 72 = .ok (.invokevirtual 258, 3) := dk_182 1 2 (dk_at dksX0_pull_3 3 rfl rfl)
theorem dX0_pull_75 : decode cX0_pull 75 = .ok (.iinc 3 1, 3) := dk_132 3 1 (dk_at dksX0_pull_3 6 rfl rfl)
theorem dX0_pull_78 : decode cX0_pull 78 = .ok (.goto (-47), 3) := dk_167 255 209 (dk_at dksX0_pull_3 9 rfl rfl)
theorem dX0_pull_81 : decode cX0_pull 81 = .ok (.aload_n 0, 1) := dk_42 (dk_at dksX0_pull_3 12 rfl rfl)
theorem dX0_pull_82 : decode cX0_pull 82 = .ok (.iload_n 2, 1) := dk_28 (dk_at dksX0_pull_3 13 rfl rfl)
theorem dX0_pull_83 : decode cX0_pull 83 = .ok (.invokevirtual 261, 3) := dk_182 1 5 (dk_at dksX0_pull_3 14 rfl rfl)
theorem dX0_pull_86 : decode cX0_pull 86 = .ok (.ireturn, 1) := dk_172 (dk_at dksX0_pull_3 17 rfl rfl)
abbrev cX0_luck : ByteArray := prog_1_method_54_code
def yX0_luck : MethodName := ⟨RX0, "luck", "(IIIII)J"⟩
def dkwX0_luck_2 : List UInt8 := [182, 1, 29, 42, 180, 1, 15, 42, 180, 1, 22, 21, 5, 184, 1, 33, 173]
abbrev dktX0_luck_2 : List UInt8 := dkwX0_luck_2 ++ []
def dkwX0_luck_1 : List UInt8 := [184, 0, 219, 153, 0, 11, 21, 5, 184, 0, 249, 154, 0, 7, 20, 1, 27, 173, 42, 27, 28, 29, 21, 4]
abbrev dktX0_luck_1 : List UInt8 := dkwX0_luck_1 ++ dktX0_luck_2
def dkwX0_luck_0 : List UInt8 := [27, 133, 9, 20, 1, 25, 184, 0, 139, 153, 0, 28, 42, 28, 29, 182, 0, 232, 153, 0, 19, 21, 4]
abbrev dktX0_luck_0 : List UInt8 := dkwX0_luck_0 ++ dktX0_luck_1
theorem dksX0_luck_0 : cX0_luck.data.toList.drop 0 = dktX0_luck_0 := by decide +kernel
theorem dksX0_luck_1 : cX0_luck.data.toList.drop 23 = dktX0_luck_1 := dk_seg dksX0_luck_0 23 rfl rfl
theorem dksX0_luck_2 : cX0_luck.data.toList.drop 47 = dktX0_luck_2 := dk_seg dksX0_luck_1 24 rfl rfl
theorem dX0_luck_0 : decode cX0_luck 0 = .ok (.iload_n 1, 1) := dk_27 (dk_at dksX0_luck_0 0 rfl rfl)
theorem dX0_luck_1 : decode cX0_luck 1 = .ok (.i2l, 1) := dk_133 (dk_at dksX0_luck_0 1 rfl rfl)
theorem dX0_luck_2 : decode cX0_luck 2 = .ok (.lconst 0, 1) := dk_9 (dk_at dksX0_luck_0 2 rfl rfl)
theorem dX0_luck_3 : decode cX0_luck 3 = .ok (.ldc2_w 281, 3) := dk_20 1 25 (dk_at dksX0_luck_0 3 rfl rfl)
theorem dX0_luck_6 : decode cX0_luck 6 = .ok (.invokestatic 139, 3) := dk_184 0 139 (dk_at dksX0_luck_0 6 rfl rfl)
theorem dX0_luck_9 : decode cX0_luck 9 = .ok (.ifCond .eq 28, 3) := dk_153 0 28 (dk_at dksX0_luck_0 9 rfl rfl)
theorem dX0_luck_12 : decode cX0_luck 12 = .ok (.aload_n 0, 1) := dk_42 (dk_at dksX0_luck_0 12 rfl rfl)
theorem dX0_luck_13 : decode cX0_luck 13 = .ok (.iload_n 2, 1) := dk_28 (dk_at dksX0_luck_0 13 rfl rfl)
theorem dX0_luck_14 : decode cX0_luck 14 = .ok (.iload_n 3, 1) := dk_29 (dk_at dksX0_luck_0 14 rfl rfl)
theorem dX0_luck_15 : decode cX0_luck 15 = .ok (.invokevirtual 232, 3) := dk_182 0 232 (dk_at dksX0_luck_0 15 rfl rfl)
theorem dX0_luck_18 : decode cX0_luck 18 = .ok (.ifCond .eq 19, 3) := dk_153 0 19 (dk_at dksX0_luck_0 18 rfl rfl)
theorem dX0_luck_21 : decode cX0_luck 21 = .ok (.iload 4, 2) := dk_21 4 (dk_at dksX0_luck_0 21 rfl rfl)
theorem dX0_luck_23 : decode cX0_luck 23 = .ok (.invokestatic 219, 3) := dk_184 0 219 (dk_at dksX0_luck_1 0 rfl rfl)
theorem dX0_luck_26 : decode cX0_luck 26 = .ok (.ifCond .eq 11, 3) := dk_153 0 11 (dk_at dksX0_luck_1 3 rfl rfl)
theorem dX0_luck_29 : decode cX0_luck 29 = .ok (.iload 5, 2) := dk_21 5 (dk_at dksX0_luck_1 6 rfl rfl)
theorem dX0_luck_31 : decode cX0_luck 31 = .ok (.invokestatic 249, 3) := dk_184 0 249 (dk_at dksX0_luck_1 8 rfl rfl)
theorem dX0_luck_34 : decode cX0_luck 34 = .ok (.ifCond .ne 7, 3) := dk_154 0 7 (dk_at dksX0_luck_1 11 rfl rfl)
theorem dX0_luck_37 : decode cX0_luck 37 = .ok (.ldc2_w 283, 3) := dk_20 1 27 (dk_at dksX0_luck_1 14 rfl rfl)
theorem dX0_luck_40 : decode cX0_luck 40 = .ok (.lreturn, 1) := dk_173 (dk_at dksX0_luck_1 17 rfl rfl)
theorem dX0_luck_41 : decode cX0_luck 41 = .ok (.aload_n 0, 1) := dk_42 (dk_at dksX0_luck_1 18 rfl rfl)
theorem dX0_luck_42 : decode cX0_luck 42 = .ok (.iload_n 1, 1) := dk_27 (dk_at dksX0_luck_1 19 rfl rfl)
theorem dX0_luck_43 : decode cX0_luck 43 = .ok (.iload_n 2, 1) := dk_28 (dk_at dksX0_luck_1 20 rfl rfl)
theorem dX0_luck_44 : decode cX0_luck 44 = .ok (.iload_n 3, 1) := dk_29 (dk_at dksX0_luck_1 21 rfl rfl)
theorem dX0_luck_45 : decode cX0_luck 45 = .ok (.iload 4, 2) := dk_21 4 (dk_at dksX0_luck_1 22 rfl rfl)
theorem dX0_luck_47 : decode cX0_luck 47 = .ok (.invokevirtual 285, 3) := dk_182 1 29 (dk_at dksX0_luck_2 0 rfl rfl)
theorem dX0_luck_50 : decode cX0_luck 50 = .ok (.aload_n 0, 1) := dk_42 (dk_at dksX0_luck_2 3 rfl rfl)
theorem dX0_luck_51 : decode cX0_luck 51 = .ok (.getfield 271, 3) := dk_180 1 15 (dk_at dksX0_luck_2 4 rfl rfl)
theorem dX0_luck_54 : decode cX0_luck 54 = .ok (.aload_n 0, 1) := dk_42 (dk_at dksX0_luck_2 7 rfl rfl)
theorem dX0_luck_55 : decode cX0_luck 55 = .ok (.getfield 278, 3) := dk_180 1 22 (dk_at dksX0_luck_2 8 rfl rfl)
theorem dX0_luck_58 : decode cX0_luck 58 = .ok (.iload 5, 2) := dk_21 5 (dk_at dksX0_luck_2 11 rfl rfl)
theorem dX0_luck_60 : decode cX0_luck 60 = .ok (.invokestatic 289, 3) := dk_184 1 33 (dk_at dksX0_luck_2 13 rfl rfl)
theorem dX0_luck_63 : decode cX0_luck 63 = .ok (.lreturn, 1) := dk_173 (dk_at dksX0_luck_2 16 rfl rfl)
abbrev cX0_findOdds : ByteArray := prog_1_method_53_code
def yX0_findOdds : MethodName := ⟨RX0, "findOdds", "(IIII)V"⟩
def dkwX0_findOdds_6 : List UInt8 := [181, 1, 19, 132, 5, 1, 167, 255, 133, 177]
abbrev dktX0_findOdds_6 : List UInt8 := dkwX0_findOdds_6 ++ []
def dkwX0_findOdds_5 : List UInt8 := [167, 0, 4, 9, 97, 181, 1, 15, 42, 89, 180, 1, 19, 22, 6, 42, 180, 0, 29, 133, 105, 97]
abbrev dktX0_findOdds_5 : List UInt8 := dkwX0_findOdds_5 ++ dktX0_findOdds_6
def dkwX0_findOdds_4 : List UInt8 := [181, 1, 22, 42, 89, 180, 1, 15, 42, 42, 180, 0, 110, 182, 0, 80, 21, 4, 160, 0, 8, 22, 6]
abbrev dktX0_findOdds_4 : List UInt8 := dkwX0_findOdds_4 ++ dktX0_findOdds_5
def dkwX0_findOdds_3 : List UInt8 := [167, 255, 221, 42, 42, 180, 0, 110, 28, 29, 21, 5, 182, 0, 66, 42, 89, 180, 1, 22, 22, 6, 97]
abbrev dktX0_findOdds_3 : List UInt8 := dkwX0_findOdds_3 ++ dktX0_findOdds_4
def dkwX0_findOdds_2 : List UInt8 := [184, 0, 56, 153, 0, 8, 27, 133, 167, 0, 8, 16, 10, 27, 100, 133, 105, 55, 6, 132, 8, 1]
abbrev dktX0_findOdds_2 : List UInt8 := dkwX0_findOdds_2 ++ dktX0_findOdds_3
def dkwX0_findOdds_1 : List UInt8 := [162, 0, 121, 10, 55, 6, 3, 54, 8, 21, 8, 16, 10, 162, 0, 34, 22, 6, 21, 5, 21, 8]
abbrev dktX0_findOdds_1 : List UInt8 := dkwX0_findOdds_1 ++ dktX0_findOdds_2
def dkwX0_findOdds_0 : List UInt8 := [42, 9, 181, 1, 15, 42, 9, 181, 1, 19, 42, 9, 181, 1, 22, 3, 54, 5, 21, 5, 17, 4, 0]
abbrev dktX0_findOdds_0 : List UInt8 := dkwX0_findOdds_0 ++ dktX0_findOdds_1
theorem dksX0_findOdds_0 : cX0_findOdds.data.toList.drop 0 = dktX0_findOdds_0 := by decide +kernel
theorem dksX0_findOdds_1 : cX0_findOdds.data.toList.drop 23 = dktX0_findOdds_1 := dk_seg dksX0_findOdds_0 23 rfl rfl
theorem dksX0_findOdds_2 : cX0_findOdds.data.toList.drop 45 = dktX0_findOdds_2 := dk_seg dksX0_findOdds_1 22 rfl rfl
theorem dksX0_findOdds_3 : cX0_findOdds.data.toList.drop 67 = dktX0_findOdds_3 := dk_seg dksX0_findOdds_2 22 rfl rfl
theorem dksX0_findOdds_4 : cX0_findOdds.data.toList.drop 90 = dktX0_findOdds_4 := dk_seg dksX0_findOdds_3 23 rfl rfl
theorem dksX0_findOdds_5 : cX0_findOdds.data.toList.drop 113 = dktX0_findOdds_5 := dk_seg dksX0_findOdds_4 23 rfl rfl
theorem dksX0_findOdds_6 : cX0_findOdds.data.toList.drop 135 = dktX0_findOdds_6 := dk_seg dksX0_findOdds_5 22 rfl rfl
theorem dX0_findOdds_0 : decode cX0_findOdds 0 = .ok (.aload_n 0, 1) := dk_42 (dk_at dksX0_findOdds_0 0 rfl rfl)
theorem dX0_findOdds_1 : decode cX0_findOdds 1 = .ok (.lconst 0, 1) := dk_9 (dk_at dksX0_findOdds_0 1 rfl rfl)
theorem dX0_findOdds_2 : decode cX0_findOdds 2 = .ok (.putfield 271, 3) := dk_181 1 15 (dk_at dksX0_findOdds_0 2 rfl rfl)
theorem dX0_findOdds_5 : decode cX0_findOdds 5 = .ok (.aload_n 0, 1) := dk_42 (dk_at dksX0_findOdds_0 5 rfl rfl)
theorem dX0_findOdds_6 : decode cX0_findOdds 6 = .ok (.lconst 0, 1) := dk_9 (dk_at dksX0_findOdds_0 6 rfl rfl)
theorem dX0_findOdds_7 : decode cX0_findOdds 7 = .ok (.putfield 275, 3) := dk_181 1 19 (dk_at dksX0_findOdds_0 7 rfl rfl)
theorem dX0_findOdds_10 : decode cX0_findOdds 10 = .ok (.aload_n 0, 1) := dk_42 (dk_at dksX0_findOdds_0 10 rfl rfl)
theorem dX0_findOdds_11 : decode cX0_findOdds 11 = .ok (.lconst 0, 1) := dk_9 (dk_at dksX0_findOdds_0 11 rfl rfl)
theorem dX0_findOdds_12 : decode cX0_findOdds 12 = .ok (.putfield 278, 3) := dk_181 1 22 (dk_at dksX0_findOdds_0 12 rfl rfl)
theorem dX0_findOdds_15 : decode cX0_findOdds 15 = .ok (.iconst 0, 1) := dk_3 (dk_at dksX0_findOdds_0 15 rfl rfl)
theorem dX0_findOdds_16 : decode cX0_findOdds 16 = .ok (.istore 5, 2) := dk_54 5 (dk_at dksX0_findOdds_0 16 rfl rfl)
theorem dX0_findOdds_18 : decode cX0_findOdds 18 = .ok (.iload 5, 2) := dk_21 5 (dk_at dksX0_findOdds_0 18 rfl rfl)
theorem dX0_findOdds_20 : decode cX0_findOdds 20 = .ok (.sipush 1024, 3) := dk_17 4 0 (dk_at dksX0_findOdds_0 20 rfl rfl)
theorem dX0_findOdds_23 : decode cX0_findOdds 23 = .ok (.if_icmp .ge 121, 3) := dk_162 0 121 (dk_at dksX0_findOdds_1 0 rfl rfl)
theorem dX0_findOdds_26 : decode cX0_findOdds 26 = .ok (.lconst 1, 1) := dk_10 (dk_at dksX0_findOdds_1 3 rfl rfl)
theorem dX0_findOdds_27 : decode cX0_findOdds 27 = .ok (.lstore 6, 2) := dk_55 6 (dk_at dksX0_findOdds_1 4 rfl rfl)
theorem dX0_findOdds_29 : decode cX0_findOdds 29 = .ok (.iconst 0, 1) := dk_3 (dk_at dksX0_findOdds_1 6 rfl rfl)
theorem dX0_findOdds_30 : decode cX0_findOdds 30 = .ok (.istore 8, 2) := dk_54 8 (dk_at dksX0_findOdds_1 7 rfl rfl)
theorem dX0_findOdds_32 : decode cX0_findOdds 32 = .ok (.iload 8, 2) := dk_21 8 (dk_at dksX0_findOdds_1 9 rfl rfl)
theorem dX0_findOdds_34 : decode cX0_findOdds 34 = .ok (.bipush 10, 2) := dk_16 10 (dk_at dksX0_findOdds_1 11 rfl rfl)
theorem dX0_findOdds_36 : decode cX0_findOdds 36 = .ok (.if_icmp .ge 34, 3) := dk_162 0 34 (dk_at dksX0_findOdds_1 13 rfl rfl)
theorem dX0_findOdds_39 : decode cX0_findOdds 39 = .ok (.lload 6, 2) := dk_22 6 (dk_at dksX0_findOdds_1 16 rfl rfl)
theorem dX0_findOdds_41 : decode cX0_findOdds 41 = .ok (.iload 5, 2) := dk_21 5 (dk_at dksX0_findOdds_1 18 rfl rfl)
theorem dX0_findOdds_43 : decode cX0_findOdds 43 = .ok (.iload 8, 2) := dk_21 8 (dk_at dksX0_findOdds_1 20 rfl rfl)
theorem dX0_findOdds_45 : decode cX0_findOdds 45 = .ok (.invokestatic 56, 3) := dk_184 0 56 (dk_at dksX0_findOdds_2 0 rfl rfl)
theorem dX0_findOdds_48 : decode cX0_findOdds 48 = .ok (.ifCond .eq 8, 3) := dk_153 0 8 (dk_at dksX0_findOdds_2 3 rfl rfl)
theorem dX0_findOdds_51 : decode cX0_findOdds 51 = .ok (.iload_n 1, 1) := dk_27 (dk_at dksX0_findOdds_2 6 rfl rfl)
theorem dX0_findOdds_52 : decode cX0_findOdds 52 = .ok (.i2l, 1) := dk_133 (dk_at dksX0_findOdds_2 7 rfl rfl)
theorem dX0_findOdds_53 : decode cX0_findOdds 53 = .ok (.goto 8, 3) := dk_167 0 8 (dk_at dksX0_findOdds_2 8 rfl rfl)
theorem dX0_findOdds_56 : decode cX0_findOdds 56 = .ok (.bipush 10, 2) := dk_16 10 (dk_at dksX0_findOdds_2 11 rfl rfl)
theorem dX0_findOdds_58 : decode cX0_findOdds 58 = .ok (.iload_n 1, 1) := dk_27 (dk_at dksX0_findOdds_2 13 rfl rfl)
theorem dX0_findOdds_59 : decode cX0_findOdds 59 = .ok (.isub, 1) := dk_100 (dk_at dksX0_findOdds_2 14 rfl rfl)
theorem dX0_findOdds_60 : decode cX0_findOdds 60 = .ok (.i2l, 1) := dk_133 (dk_at dksX0_findOdds_2 15 rfl rfl)
theorem dX0_findOdds_61 : decode cX0_findOdds 61 = .ok (.lmul, 1) := dk_105 (dk_at dksX0_findOdds_2 16 rfl rfl)
theorem dX0_findOdds_62 : decode cX0_findOdds 62 = .ok (.lstore 6, 2) := dk_55 6 (dk_at dksX0_findOdds_2 17 rfl rfl)
theorem dX0_findOdds_64 : decode cX0_findOdds 64 = .ok (.iinc 8 1, 3) := dk_132 8 1 (dk_at dksX0_findOdds_2 19 rfl rfl)
theorem dX0_findOdds_67 : decode cX0_findOdds 67 = .ok (.goto (-35), 3) := dk_167 255 221 (dk_at dksX0_findOdds_3 0 rfl rfl)
theorem dX0_findOdds_70 : decode cX0_findOdds 70 = .ok (.aload_n 0, 1) := dk_42 (dk_at dksX0_findOdds_3 3 rfl rfl)
theorem dX0_findOdds_71 : decode cX0_findOdds 71 = .ok (.aload_n 0, 1) := dk_42 (dk_at dksX0_findOdds_3 4 rfl rfl)
theorem dX0_findOdds_72 : decode cX0_findOdds 72 = .ok (.getfield 110, 3) := dk_180 0 110 (dk_at dksX0_findOdds_3 5 rfl rfl)
theorem dX0_findOdds_75 : decode cX0_findOdds 75 = .ok (.iload_n 2, 1) := dk_28 (dk_at dksX0_findOdds_3 8 rfl rfl)
theorem dX0_findOdds_76 : decode cX0_findOdds 76 = .ok (.iload_n 3, 1) := dk_29 (dk_at dksX0_findOdds_3 9 rfl rfl)
theorem dX0_findOdds_77 : decode cX0_findOdds 77 = .ok (.iload 5, 2) := dk_21 5 (dk_at dksX0_findOdds_3 10 rfl rfl)
theorem dX0_findOdds_79 : decode cX0_findOdds 79 = .ok (.invokevirtual 66, 3) := dk_182 0 66 (dk_at dksX0_findOdds_3 12 rfl rfl)
theorem dX0_findOdds_82 : decode cX0_findOdds 82 = .ok (.aload_n 0, 1) := dk_42 (dk_at dksX0_findOdds_3 15 rfl rfl)
theorem dX0_findOdds_83 : decode cX0_findOdds 83 = .ok (.dup, 1) := dk_89 (dk_at dksX0_findOdds_3 16 rfl rfl)
theorem dX0_findOdds_84 : decode cX0_findOdds 84 = .ok (.getfield 278, 3) := dk_180 1 22 (dk_at dksX0_findOdds_3 17 rfl rfl)
theorem dX0_findOdds_87 : decode cX0_findOdds 87 = .ok (.lload 6, 2) := dk_22 6 (dk_at dksX0_findOdds_3 20 rfl rfl)
theorem dX0_findOdds_89 : decode cX0_findOdds 89 = .ok (.ladd, 1) := dk_97 (dk_at dksX0_findOdds_3 22 rfl rfl)
theorem dX0_findOdds_90 : decode cX0_findOdds 90 = .ok (.putfield 278, 3) := dk_181 1 22 (dk_at dksX0_findOdds_4 0 rfl rfl)
theorem dX0_findOdds_93 : decode cX0_findOdds 93 = .ok (.aload_n 0, 1) := dk_42 (dk_at dksX0_findOdds_4 3 rfl rfl)
theorem dX0_findOdds_94 : decode cX0_findOdds 94 = .ok (.dup, 1) := dk_89 (dk_at dksX0_findOdds_4 4 rfl rfl)
theorem dX0_findOdds_95 : decode cX0_findOdds 95 = .ok (.getfield 271, 3) := dk_180 1 15 (dk_at dksX0_findOdds_4 5 rfl rfl)
theorem dX0_findOdds_98 : decode cX0_findOdds 98 = .ok (.aload_n 0, 1) := dk_42 (dk_at dksX0_findOdds_4 8 rfl rfl)
theorem dX0_findOdds_99 : decode cX0_findOdds 99 = .ok (.aload_n 0, 1) := dk_42 (dk_at dksX0_findOdds_4 9 rfl rfl)
theorem dX0_findOdds_100 : decode cX0_findOdds 100 = .ok (.getfield 110, 3) := dk_180 0 110 (dk_at dksX0_findOdds_4 10 rfl rfl)
theorem dX0_findOdds_103 : decode cX0_findOdds 103 = .ok (.invokevirtual 80, 3) := dk_182 0 80 (dk_at dksX0_findOdds_4 13 rfl rfl)
theorem dX0_findOdds_106 : decode cX0_findOdds 106 = .ok (.iload 4, 2) := dk_21 4 (dk_at dksX0_findOdds_4 16 rfl rfl)
theorem dX0_findOdds_108 : decode cX0_findOdds 108 = .ok (.if_icmp .ne 8, 3) := dk_160 0 8 (dk_at dksX0_findOdds_4 18 rfl rfl)
theorem dX0_findOdds_111 : decode cX0_findOdds 111 = .ok (.lload 6, 2) := dk_22 6 (dk_at dksX0_findOdds_4 21 rfl rfl)
theorem dX0_findOdds_113 : decode cX0_findOdds 113 = .ok (.goto 4, 3) := dk_167 0 4 (dk_at dksX0_findOdds_5 0 rfl rfl)
theorem dX0_findOdds_116 : decode cX0_findOdds 116 = .ok (.lconst 0, 1) := dk_9 (dk_at dksX0_findOdds_5 3 rfl rfl)
theorem dX0_findOdds_117 : decode cX0_findOdds 117 = .ok (.ladd, 1) := dk_97 (dk_at dksX0_findOdds_5 4 rfl rfl)
theorem dX0_findOdds_118 : decode cX0_findOdds 118 = .ok (.putfield 271, 3) := dk_181 1 15 (dk_at dksX0_findOdds_5 5 rfl rfl)
theorem dX0_findOdds_121 : decode cX0_findOdds 121 = .ok (.aload_n 0, 1) := dk_42 (dk_at dksX0_findOdds_5 8 rfl rfl)
theorem dX0_findOdds_122 : decode cX0_findOdds 122 = .ok (.dup, 1) := dk_89 (dk_at dksX0_findOdds_5 9 rfl rfl)
theorem dX0_findOdds_123 : decode cX0_findOdds 123 = .ok (.getfield 275, 3) := dk_180 1 19 (dk_at dksX0_findOdds_5 10 rfl rfl)
theorem dX0_findOdds_126 : decode cX0_findOdds 126 = .ok (.lload 6, 2) := dk_22 6 (dk_at dksX0_findOdds_5 13 rfl rfl)
theorem dX0_findOdds_128 : decode cX0_findOdds 128 = .ok (.aload_n 0, 1) := dk_42 (dk_at dksX0_findOdds_5 15 rfl rfl)
theorem dX0_findOdds_129 : decode cX0_findOdds 129 = .ok (.getfield 29, 3) := dk_180 0 29 (dk_at dksX0_findOdds_5 16 rfl rfl)
theorem dX0_findOdds_132 : decode cX0_findOdds 132 = .ok (.i2l, 1) := dk_133 (dk_at dksX0_findOdds_5 19 rfl rfl)
theorem dX0_findOdds_133 : decode cX0_findOdds 133 = .ok (.lmul, 1) := dk_105 (dk_at dksX0_findOdds_5 20 rfl rfl)
theorem dX0_findOdds_134 : decode cX0_findOdds 134 = .ok (.ladd, 1) := dk_97 (dk_at dksX0_findOdds_5 21 rfl rfl)
theorem dX0_findOdds_135 : decode cX0_findOdds 135 = .ok (.putfield 275, 3) := dk_181 1 19 (dk_at dksX0_findOdds_6 0 rfl rfl)
theorem dX0_findOdds_138 : decode cX0_findOdds 138 = .ok (.iinc 5 1, 3) := dk_132 5 1 (dk_at dksX0_findOdds_6 3 rfl rfl)
theorem dX0_findOdds_141 : decode cX0_findOdds 141 = .ok (.goto (-123), 3) := dk_167 255 133 (dk_at dksX0_findOdds_6 6 rfl rfl)
theorem dX0_findOdds_144 : decode cX0_findOdds 144 = .ok (.return_, 1) := dk_177 (dk_at dksX0_findOdds_6 9 rfl rfl)
abbrev cX0_lowest : ByteArray := prog_1_method_52_code
def yX0_lowest : MethodName := ⟨RX0, "lowest", "(JJI)J"⟩
def dkwX0_lowest_1 : List UInt8 := [22, 9, 55, 7, 167, 255, 234, 21, 4, 154, 0, 10, 30, 22, 5, 109, 167, 0, 7, 32, 22, 5, 109, 173]
abbrev dktX0_lowest_1 : List UInt8 := dkwX0_lowest_1 ++ []
def dkwX0_lowest_0 : List UInt8 := [32, 55, 5, 30, 55, 7, 22, 7, 9, 148, 153, 0, 21, 22, 5, 22, 7, 113, 55, 9, 22, 7, 55, 5]
abbrev dktX0_lowest_0 : List UInt8 := dkwX0_lowest_0 ++ dktX0_lowest_1
theorem dksX0_lowest_0 : cX0_lowest.data.toList.drop 0 = dktX0_lowest_0 := by decide +kernel
theorem dksX0_lowest_1 : cX0_lowest.data.toList.drop 24 = dktX0_lowest_1 := dk_seg dksX0_lowest_0 24 rfl rfl
theorem dX0_lowest_0 : decode cX0_lowest 0 = .ok (.lload_n 2, 1) := dk_32 (dk_at dksX0_lowest_0 0 rfl rfl)
theorem dX0_lowest_1 : decode cX0_lowest 1 = .ok (.lstore 5, 2) := dk_55 5 (dk_at dksX0_lowest_0 1 rfl rfl)
theorem dX0_lowest_3 : decode cX0_lowest 3 = .ok (.lload_n 0, 1) := dk_30 (dk_at dksX0_lowest_0 3 rfl rfl)
theorem dX0_lowest_4 : decode cX0_lowest 4 = .ok (.lstore 7, 2) := dk_55 7 (dk_at dksX0_lowest_0 4 rfl rfl)
theorem dX0_lowest_6 : decode cX0_lowest 6 = .ok (.lload 7, 2) := dk_22 7 (dk_at dksX0_lowest_0 6 rfl rfl)
theorem dX0_lowest_8 : decode cX0_lowest 8 = .ok (.lconst 0, 1) := dk_9 (dk_at dksX0_lowest_0 8 rfl rfl)
theorem dX0_lowest_9 : decode cX0_lowest 9 = .ok (.lcmp, 1) := dk_148 (dk_at dksX0_lowest_0 9 rfl rfl)
theorem dX0_lowest_10 : decode cX0_lowest 10 = .ok (.ifCond .eq 21, 3) := dk_153 0 21 (dk_at dksX0_lowest_0 10 rfl rfl)
theorem dX0_lowest_13 : decode cX0_lowest 13 = .ok (.lload 5, 2) := dk_22 5 (dk_at dksX0_lowest_0 13 rfl rfl)
theorem dX0_lowest_15 : decode cX0_lowest 15 = .ok (.lload 7, 2) := dk_22 7 (dk_at dksX0_lowest_0 15 rfl rfl)
theorem dX0_lowest_17 : decode cX0_lowest 17 = .ok (.lrem, 1) := dk_113 (dk_at dksX0_lowest_0 17 rfl rfl)
theorem dX0_lowest_18 : decode cX0_lowest 18 = .ok (.lstore 9, 2) := dk_55 9 (dk_at dksX0_lowest_0 18 rfl rfl)
theorem dX0_lowest_20 : decode cX0_lowest 20 = .ok (.lload 7, 2) := dk_22 7 (dk_at dksX0_lowest_0 20 rfl rfl)
theorem dX0_lowest_22 : decode cX0_lowest 22 = .ok (.lstore 5, 2) := dk_55 5 (dk_at dksX0_lowest_0 22 rfl rfl)
theorem dX0_lowest_24 : decode cX0_lowest 24 = .ok (.lload 9, 2) := dk_22 9 (dk_at dksX0_lowest_1 0 rfl rfl)
theorem dX0_lowest_26 : decode cX0_lowest 26 = .ok (.lstore 7, 2) := dk_55 7 (dk_at dksX0_lowest_1 2 rfl rfl)
theorem dX0_lowest_28 : decode cX0_lowest 28 = .ok (.goto (-22), 3) := dk_167 255 234 (dk_at dksX0_lowest_1 4 rfl rfl)
theorem dX0_lowest_31 : decode cX0_lowest 31 = .ok (.iload 4, 2) := dk_21 4 (dk_at dksX0_lowest_1 7 rfl rfl)
theorem dX0_lowest_33 : decode cX0_lowest 33 = .ok (.ifCond .ne 10, 3) := dk_154 0 10 (dk_at dksX0_lowest_1 9 rfl rfl)
theorem dX0_lowest_36 : decode cX0_lowest 36 = .ok (.lload_n 0, 1) := dk_30 (dk_at dksX0_lowest_1 12 rfl rfl)
theorem dX0_lowest_37 : decode cX0_lowest 37 = .ok (.lload 5, 2) := dk_22 5 (dk_at dksX0_lowest_1 13 rfl rfl)
theorem dX0_lowest_39 : decode cX0_lowest 39 = .ok (.ldiv, 1) := dk_109 (dk_at dksX0_lowest_1 15 rfl rfl)
theorem dX0_lowest_40 : decode cX0_lowest 40 = .ok (.goto 7, 3) := dk_167 0 7 (dk_at dksX0_lowest_1 16 rfl rfl)
theorem dX0_lowest_43 : decode cX0_lowest 43 = .ok (.lload_n 2, 1) := dk_32 (dk_at dksX0_lowest_1 19 rfl rfl)
theorem dX0_lowest_44 : decode cX0_lowest 44 = .ok (.lload 5, 2) := dk_22 5 (dk_at dksX0_lowest_1 20 rfl rfl)
theorem dX0_lowest_46 : decode cX0_lowest 46 = .ok (.ldiv, 1) := dk_109 (dk_at dksX0_lowest_1 22 rfl rfl)
theorem dX0_lowest_47 : decode cX0_lowest 47 = .ok (.lreturn, 1) := dk_173 (dk_at dksX0_lowest_1 23 rfl rfl)
abbrev cX0_mean : ByteArray := prog_1_method_55_code
def yX0_mean : MethodName := ⟨RX0, "mean", "(IIII)J"⟩
def dkwX0_mean_2 : List UInt8 := [180, 1, 22, 21, 4, 184, 1, 33, 173]
abbrev dktX0_mean_2 : List UInt8 := dkwX0_mean_2 ++ []
def dkwX0_mean_1 : List UInt8 := [184, 0, 249, 154, 0, 7, 20, 1, 27, 173, 42, 27, 28, 29, 3, 182, 1, 29, 42, 180, 1, 19, 42]
abbrev dktX0_mean_1 : List UInt8 := dkwX0_mean_1 ++ dktX0_mean_2
def dkwX0_mean_0 : List UInt8 := [27, 133, 9, 20, 1, 25, 184, 0, 139, 153, 0, 20, 42, 28, 29, 182, 0, 232, 153, 0, 11, 21, 4]
abbrev dktX0_mean_0 : List UInt8 := dkwX0_mean_0 ++ dktX0_mean_1
theorem dksX0_mean_0 : cX0_mean.data.toList.drop 0 = dktX0_mean_0 := by decide +kernel
theorem dksX0_mean_1 : cX0_mean.data.toList.drop 23 = dktX0_mean_1 := dk_seg dksX0_mean_0 23 rfl rfl
theorem dksX0_mean_2 : cX0_mean.data.toList.drop 46 = dktX0_mean_2 := dk_seg dksX0_mean_1 23 rfl rfl
theorem dX0_mean_0 : decode cX0_mean 0 = .ok (.iload_n 1, 1) := dk_27 (dk_at dksX0_mean_0 0 rfl rfl)
theorem dX0_mean_1 : decode cX0_mean 1 = .ok (.i2l, 1) := dk_133 (dk_at dksX0_mean_0 1 rfl rfl)
theorem dX0_mean_2 : decode cX0_mean 2 = .ok (.lconst 0, 1) := dk_9 (dk_at dksX0_mean_0 2 rfl rfl)
theorem dX0_mean_3 : decode cX0_mean 3 = .ok (.ldc2_w 281, 3) := dk_20 1 25 (dk_at dksX0_mean_0 3 rfl rfl)
theorem dX0_mean_6 : decode cX0_mean 6 = .ok (.invokestatic 139, 3) := dk_184 0 139 (dk_at dksX0_mean_0 6 rfl rfl)
theorem dX0_mean_9 : decode cX0_mean 9 = .ok (.ifCond .eq 20, 3) := dk_153 0 20 (dk_at dksX0_mean_0 9 rfl rfl)
theorem dX0_mean_12 : decode cX0_mean 12 = .ok (.aload_n 0, 1) := dk_42 (dk_at dksX0_mean_0 12 rfl rfl)
theorem dX0_mean_13 : decode cX0_mean 13 = .ok (.iload_n 2, 1) := dk_28 (dk_at dksX0_mean_0 13 rfl rfl)
theorem dX0_mean_14 : decode cX0_mean 14 = .ok (.iload_n 3, 1) := dk_29 (dk_at dksX0_mean_0 14 rfl rfl)
theorem dX0_mean_15 : decode cX0_mean 15 = .ok (.invokevirtual 232, 3) := dk_182 0 232 (dk_at dksX0_mean_0 15 rfl rfl)
theorem dX0_mean_18 : decode cX0_mean 18 = .ok (.ifCond .eq 11, 3) := dk_153 0 11 (dk_at dksX0_mean_0 18 rfl rfl)
theorem dX0_mean_21 : decode cX0_mean 21 = .ok (.iload 4, 2) := dk_21 4 (dk_at dksX0_mean_0 21 rfl rfl)
theorem dX0_mean_23 : decode cX0_mean 23 = .ok (.invokestatic 249, 3) := dk_184 0 249 (dk_at dksX0_mean_1 0 rfl rfl)
theorem dX0_mean_26 : decode cX0_mean 26 = .ok (.ifCond .ne 7, 3) := dk_154 0 7 (dk_at dksX0_mean_1 3 rfl rfl)
theorem dX0_mean_29 : decode cX0_mean 29 = .ok (.ldc2_w 283, 3) := dk_20 1 27 (dk_at dksX0_mean_1 6 rfl rfl)
theorem dX0_mean_32 : decode cX0_mean 32 = .ok (.lreturn, 1) := dk_173 (dk_at dksX0_mean_1 9 rfl rfl)
theorem dX0_mean_33 : decode cX0_mean 33 = .ok (.aload_n 0, 1) := dk_42 (dk_at dksX0_mean_1 10 rfl rfl)
theorem dX0_mean_34 : decode cX0_mean 34 = .ok (.iload_n 1, 1) := dk_27 (dk_at dksX0_mean_1 11 rfl rfl)
theorem dX0_mean_35 : decode cX0_mean 35 = .ok (.iload_n 2, 1) := dk_28 (dk_at dksX0_mean_1 12 rfl rfl)
theorem dX0_mean_36 : decode cX0_mean 36 = .ok (.iload_n 3, 1) := dk_29 (dk_at dksX0_mean_1 13 rfl rfl)
theorem dX0_mean_37 : decode cX0_mean 37 = .ok (.iconst 0, 1) := dk_3 (dk_at dksX0_mean_1 14 rfl rfl)
theorem dX0_mean_38 : decode cX0_mean 38 = .ok (.invokevirtual 285, 3) := dk_182 1 29 (dk_at dksX0_mean_1 15 rfl rfl)
theorem dX0_mean_41 : decode cX0_mean 41 = .ok (.aload_n 0, 1) := dk_42 (dk_at dksX0_mean_1 18 rfl rfl)
theorem dX0_mean_42 : decode cX0_mean 42 = .ok (.getfield 275, 3) := dk_180 1 19 (dk_at dksX0_mean_1 19 rfl rfl)
theorem dX0_mean_45 : decode cX0_mean 45 = .ok (.aload_n 0, 1) := dk_42 (dk_at dksX0_mean_1 22 rfl rfl)
theorem dX0_mean_46 : decode cX0_mean 46 = .ok (.getfield 278, 3) := dk_180 1 22 (dk_at dksX0_mean_2 0 rfl rfl)
theorem dX0_mean_49 : decode cX0_mean 49 = .ok (.iload 4, 2) := dk_21 4 (dk_at dksX0_mean_2 3 rfl rfl)
theorem dX0_mean_51 : decode cX0_mean 51 = .ok (.invokestatic 289, 3) := dk_184 1 33 (dk_at dksX0_mean_2 5 rfl rfl)
theorem dX0_mean_54 : decode cX0_mean 54 = .ok (.lreturn, 1) := dk_173 (dk_at dksX0_mean_2 8 rfl rfl)
abbrev cX0_see : ByteArray := prog_1_method_56_code
def yX0_see : MethodName := ⟨RX0, "see", "(III)I"⟩
def dkwX0_see_4 : List UInt8 := [84, 42, 89, 180, 0, 164, 4, 96, 181, 0, 164, 42, 180, 0, 164, 172]
abbrev dktX0_see_4 : List UInt8 := dkwX0_see_4 ++ []
def dkwX0_see_3 : List UInt8 := [180, 0, 121, 6, 42, 180, 0, 164, 104, 5, 96, 29, 16, 9, 160, 0, 8, 16, 252, 167, 0, 4, 29, 145]
abbrev dktX0_see_3 : List UInt8 := dkwX0_see_3 ++ dktX0_see_4
def dkwX0_see_2 : List UInt8 := [180, 0, 164, 104, 27, 145, 84, 42, 180, 0, 121, 6, 42, 180, 0, 164, 104, 4, 96, 28, 145, 84, 42]
abbrev dktX0_see_2 : List UInt8 := dkwX0_see_2 ++ dktX0_see_3
def dkwX0_see_1 : List UInt8 := [159, 0, 5, 2, 172, 42, 180, 0, 164, 16, 6, 160, 0, 6, 16, 253, 172, 42, 180, 0, 121, 6, 42]
abbrev dktX0_see_1 : List UInt8 := dkwX0_see_1 ++ dktX0_see_2
def dkwX0_see_0 : List UInt8 := [42, 27, 28, 182, 0, 232, 153, 0, 21, 29, 133, 9, 20, 1, 37, 184, 0, 139, 154, 0, 11, 29, 16, 9]
abbrev dktX0_see_0 : List UInt8 := dkwX0_see_0 ++ dktX0_see_1
theorem dksX0_see_0 : cX0_see.data.toList.drop 0 = dktX0_see_0 := by decide +kernel
theorem dksX0_see_1 : cX0_see.data.toList.drop 24 = dktX0_see_1 := dk_seg dksX0_see_0 24 rfl rfl
theorem dksX0_see_2 : cX0_see.data.toList.drop 47 = dktX0_see_2 := dk_seg dksX0_see_1 23 rfl rfl
theorem dksX0_see_3 : cX0_see.data.toList.drop 70 = dktX0_see_3 := dk_seg dksX0_see_2 23 rfl rfl
theorem dksX0_see_4 : cX0_see.data.toList.drop 94 = dktX0_see_4 := dk_seg dksX0_see_3 24 rfl rfl
theorem dX0_see_0 : decode cX0_see 0 = .ok (.aload_n 0, 1) := dk_42 (dk_at dksX0_see_0 0 rfl rfl)
theorem dX0_see_1 : decode cX0_see 1 = .ok (.iload_n 1, 1) := dk_27 (dk_at dksX0_see_0 1 rfl rfl)
theorem dX0_see_2 : decode cX0_see 2 = .ok (.iload_n 2, 1) := dk_28 (dk_at dksX0_see_0 2 rfl rfl)
theorem dX0_see_3 : decode cX0_see 3 = .ok (.invokevirtual 232, 3) := dk_182 0 232 (dk_at dksX0_see_0 3 rfl rfl)
theorem dX0_see_6 : decode cX0_see 6 = .ok (.ifCond .eq 21, 3) := dk_153 0 21 (dk_at dksX0_see_0 6 rfl rfl)
theorem dX0_see_9 : decode cX0_see 9 = .ok (.iload_n 3, 1) := dk_29 (dk_at dksX0_see_0 9 rfl rfl)
theorem dX0_see_10 : decode cX0_see 10 = .ok (.i2l, 1) := dk_133 (dk_at dksX0_see_0 10 rfl rfl)
theorem dX0_see_11 : decode cX0_see 11 = .ok (.lconst 0, 1) := dk_9 (dk_at dksX0_see_0 11 rfl rfl)
theorem dX0_see_12 : decode cX0_see 12 = .ok (.ldc2_w 293, 3) := dk_20 1 37 (dk_at dksX0_see_0 12 rfl rfl)
theorem dX0_see_15 : decode cX0_see 15 = .ok (.invokestatic 139, 3) := dk_184 0 139 (dk_at dksX0_see_0 15 rfl rfl)
theorem dX0_see_18 : decode cX0_see 18 = .ok (.ifCond .ne 11, 3) := dk_154 0 11 (dk_at dksX0_see_0 18 rfl rfl)
theorem dX0_see_21 : decode cX0_see 21 = .ok (.iload_n 3, 1) := dk_29 (dk_at dksX0_see_0 21 rfl rfl)
theorem dX0_see_22 : decode cX0_see 22 = .ok (.bipush 9, 2) := dk_16 9 (dk_at dksX0_see_0 22 rfl rfl)
theorem dX0_see_24 : decode cX0_see 24 = .ok (.if_icmp .eq 5, 3) := dk_159 0 5 (dk_at dksX0_see_1 0 rfl rfl)
theorem dX0_see_27 : decode cX0_see 27 = .ok (.iconst (-1), 1) := dk_2 (dk_at dksX0_see_1 3 rfl rfl)
theorem dX0_see_28 : decode cX0_see 28 = .ok (.ireturn, 1) := dk_172 (dk_at dksX0_see_1 4 rfl rfl)
theorem dX0_see_29 : decode cX0_see 29 = .ok (.aload_n 0, 1) := dk_42 (dk_at dksX0_see_1 5 rfl rfl)
theorem dX0_see_30 : decode cX0_see 30 = .ok (.getfield 164, 3) := dk_180 0 164 (dk_at dksX0_see_1 6 rfl rfl)
theorem dX0_see_33 : decode cX0_see 33 = .ok (.bipush 6, 2) := dk_16 6 (dk_at dksX0_see_1 9 rfl rfl)
theorem dX0_see_35 : decode cX0_see 35 = .ok (.if_icmp .ne 6, 3) := dk_160 0 6 (dk_at dksX0_see_1 11 rfl rfl)
theorem dX0_see_38 : decode cX0_see 38 = .ok (.bipush (-3), 2) := dk_16 253 (dk_at dksX0_see_1 14 rfl rfl)
theorem dX0_see_40 : decode cX0_see 40 = .ok (.ireturn, 1) := dk_172 (dk_at dksX0_see_1 16 rfl rfl)
theorem dX0_see_41 : decode cX0_see 41 = .ok (.aload_n 0, 1) := dk_42 (dk_at dksX0_see_1 17 rfl rfl)
theorem dX0_see_42 : decode cX0_see 42 = .ok (.getfield 121, 3) := dk_180 0 121 (dk_at dksX0_see_1 18 rfl rfl)
theorem dX0_see_45 : decode cX0_see 45 = .ok (.iconst 3, 1) := dk_6 (dk_at dksX0_see_1 21 rfl rfl)
theorem dX0_see_46 : decode cX0_see 46 = .ok (.aload_n 0, 1) := dk_42 (dk_at dksX0_see_1 22 rfl rfl)
theorem dX0_see_47 : decode cX0_see 47 = .ok (.getfield 164, 3) := dk_180 0 164 (dk_at dksX0_see_2 0 rfl rfl)
theorem dX0_see_50 : decode cX0_see 50 = .ok (.imul, 1) := dk_104 (dk_at dksX0_see_2 3 rfl rfl)
theorem dX0_see_51 : decode cX0_see 51 = .ok (.iload_n 1, 1) := dk_27 (dk_at dksX0_see_2 4 rfl rfl)
theorem dX0_see_52 : decode cX0_see 52 = .ok (.i2b, 1) := dk_145 (dk_at dksX0_see_2 5 rfl rfl)
theorem dX0_see_53 : decode cX0_see 53 = .ok (.bastore, 1) := dk_84 (dk_at dksX0_see_2 6 rfl rfl)
theorem dX0_see_54 : decode cX0_see 54 = .ok (.aload_n 0, 1) := dk_42 (dk_at dksX0_see_2 7 rfl rfl)
theorem dX0_see_55 : decode cX0_see 55 = .ok (.getfield 121, 3) := dk_180 0 121 (dk_at dksX0_see_2 8 rfl rfl)
theorem dX0_see_58 : decode cX0_see 58 = .ok (.iconst 3, 1) := dk_6 (dk_at dksX0_see_2 11 rfl rfl)
theorem dX0_see_59 : decode cX0_see 59 = .ok (.aload_n 0, 1) := dk_42 (dk_at dksX0_see_2 12 rfl rfl)
theorem dX0_see_60 : decode cX0_see 60 = .ok (.getfield 164, 3) := dk_180 0 164 (dk_at dksX0_see_2 13 rfl rfl)
theorem dX0_see_63 : decode cX0_see 63 = .ok (.imul, 1) := dk_104 (dk_at dksX0_see_2 16 rfl rfl)
theorem dX0_see_64 : decode cX0_see 64 = .ok (.iconst 1, 1) := dk_4 (dk_at dksX0_see_2 17 rfl rfl)
theorem dX0_see_65 : decode cX0_see 65 = .ok (.iadd, 1) := dk_96 (dk_at dksX0_see_2 18 rfl rfl)
theorem dX0_see_66 : decode cX0_see 66 = .ok (.iload_n 2, 1) := dk_28 (dk_at dksX0_see_2 19 rfl rfl)
theorem dX0_see_67 : decode cX0_see 67 = .ok (.i2b, 1) := dk_145 (dk_at dksX0_see_2 20 rfl rfl)
theorem dX0_see_68 : decode cX0_see 68 = .ok (.bastore, 1) := dk_84 (dk_at dksX0_see_2 21 rfl rfl)
theorem dX0_see_69 : decode cX0_see 69 = .ok (.aload_n 0, 1) := dk_42 (dk_at dksX0_see_2 22 rfl rfl)
theorem dX0_see_70 : decode cX0_see 70 = .ok (.getfield 121, 3) := dk_180 0 121 (dk_at dksX0_see_3 0 rfl rfl)
theorem dX0_see_73 : decode cX0_see 73 = .ok (.iconst 3, 1) := dk_6 (dk_at dksX0_see_3 3 rfl rfl)
theorem dX0_see_74 : decode cX0_see 74 = .ok (.aload_n 0, 1) := dk_42 (dk_at dksX0_see_3 4 rfl rfl)
theorem dX0_see_75 : decode cX0_see 75 = .ok (.getfield 164, 3) := dk_180 0 164 (dk_at dksX0_see_3 5 rfl rfl)
theorem dX0_see_78 : decode cX0_see 78 = .ok (.imul, 1) := dk_104 (dk_at dksX0_see_3 8 rfl rfl)
theorem dX0_see_79 : decode cX0_see 79 = .ok (.iconst 2, 1) := dk_5 (dk_at dksX0_see_3 9 rfl rfl)
theorem dX0_see_80 : decode cX0_see 80 = .ok (.iadd, 1) := dk_96 (dk_at dksX0_see_3 10 rfl rfl)
theorem dX0_see_81 : decode cX0_see 81 = .ok (.iload_n 3, 1) := dk_29 (dk_at dksX0_see_3 11 rfl rfl)
theorem dX0_see_82 : decode cX0_see 82 = .ok (.bipush 9, 2) := dk_16 9 (dk_at dksX0_see_3 12 rfl rfl)
theorem dX0_see_84 : decode cX0_see 84 = .ok (.if_icmp .ne 8, 3) := dk_160 0 8 (dk_at dksX0_see_3 14 rfl rfl)
theorem dX0_see_87 : decode cX0_see 87 = .ok (.bipush (-4), 2) := dk_16 252 (dk_at dksX0_see_3 17 rfl rfl)
theorem dX0_see_89 : decode cX0_see 89 = .ok (.goto 4, 3) := dk_167 0 4 (dk_at dksX0_see_3 19 rfl rfl)
theorem dX0_see_92 : decode cX0_see 92 = .ok (.iload_n 3, 1) := dk_29 (dk_at dksX0_see_3 22 rfl rfl)
theorem dX0_see_93 : decode cX0_see 93 = .ok (.i2b, 1) := dk_145 (dk_at dksX0_see_3 23 rfl rfl)
theorem dX0_see_94 : decode cX0_see 94 = .ok (.bastore, 1) := dk_84 (dk_at dksX0_see_4 0 rfl rfl)
theorem dX0_see_95 : decode cX0_see 95 = .ok (.aload_n 0, 1) := dk_42 (dk_at dksX0_see_4 1 rfl rfl)
theorem dX0_see_96 : decode cX0_see 96 = .ok (.dup, 1) := dk_89 (dk_at dksX0_see_4 2 rfl rfl)
theorem dX0_see_97 : decode cX0_see 97 = .ok (.getfield 164, 3) := dk_180 0 164 (dk_at dksX0_see_4 3 rfl rfl)
theorem dX0_see_100 : decode cX0_see 100 = .ok (.iconst 1, 1) := dk_4 (dk_at dksX0_see_4 6 rfl rfl)
theorem dX0_see_101 : decode cX0_see 101 = .ok (.iadd, 1) := dk_96 (dk_at dksX0_see_4 7 rfl rfl)
theorem dX0_see_102 : decode cX0_see 102 = .ok (.putfield 164, 3) := dk_181 0 164 (dk_at dksX0_see_4 8 rfl rfl)
theorem dX0_see_105 : decode cX0_see 105 = .ok (.aload_n 0, 1) := dk_42 (dk_at dksX0_see_4 11 rfl rfl)
theorem dX0_see_106 : decode cX0_see 106 = .ok (.getfield 164, 3) := dk_180 0 164 (dk_at dksX0_see_4 12 rfl rfl)
theorem dX0_see_109 : decode cX0_see 109 = .ok (.ireturn, 1) := dk_172 (dk_at dksX0_see_4 15 rfl rfl)
abbrev cX0_forget : ByteArray := prog_1_method_57_code
def yX0_forget : MethodName := ⟨RX0, "forget", "(I)I"⟩
def dkwX0_forget_1 : List UInt8 := [181, 0, 164, 28, 172]
abbrev dktX0_forget_1 : List UInt8 := dkwX0_forget_1 ++ []
def dkwX0_forget_0 : List UInt8 := [27, 133, 9, 42, 180, 0, 164, 133, 184, 0, 139, 154, 0, 5, 2, 172, 42, 180, 0, 164, 61, 42, 27]
abbrev dktX0_forget_0 : List UInt8 := dkwX0_forget_0 ++ dktX0_forget_1
theorem dksX0_forget_0 : cX0_forget.data.toList.drop 0 = dktX0_forget_0 := by decide +kernel
theorem dksX0_forget_1 : cX0_forget.data.toList.drop 23 = dktX0_forget_1 := dk_seg dksX0_forget_0 23 rfl rfl
theorem dX0_forget_0 : decode cX0_forget 0 = .ok (.iload_n 1, 1) := dk_27 (dk_at dksX0_forget_0 0 rfl rfl)
theorem dX0_forget_1 : decode cX0_forget 1 = .ok (.i2l, 1) := dk_133 (dk_at dksX0_forget_0 1 rfl rfl)
theorem dX0_forget_2 : decode cX0_forget 2 = .ok (.lconst 0, 1) := dk_9 (dk_at dksX0_forget_0 2 rfl rfl)
theorem dX0_forget_3 : decode cX0_forget 3 = .ok (.aload_n 0, 1) := dk_42 (dk_at dksX0_forget_0 3 rfl rfl)
theorem dX0_forget_4 : decode cX0_forget 4 = .ok (.getfield 164, 3) := dk_180 0 164 (dk_at dksX0_forget_0 4 rfl rfl)
theorem dX0_forget_7 : decode cX0_forget 7 = .ok (.i2l, 1) := dk_133 (dk_at dksX0_forget_0 7 rfl rfl)
theorem dX0_forget_8 : decode cX0_forget 8 = .ok (.invokestatic 139, 3) := dk_184 0 139 (dk_at dksX0_forget_0 8 rfl rfl)
theorem dX0_forget_11 : decode cX0_forget 11 = .ok (.ifCond .ne 5, 3) := dk_154 0 5 (dk_at dksX0_forget_0 11 rfl rfl)
theorem dX0_forget_14 : decode cX0_forget 14 = .ok (.iconst (-1), 1) := dk_2 (dk_at dksX0_forget_0 14 rfl rfl)
theorem dX0_forget_15 : decode cX0_forget 15 = .ok (.ireturn, 1) := dk_172 (dk_at dksX0_forget_0 15 rfl rfl)
theorem dX0_forget_16 : decode cX0_forget 16 = .ok (.aload_n 0, 1) := dk_42 (dk_at dksX0_forget_0 16 rfl rfl)
theorem dX0_forget_17 : decode cX0_forget 17 = .ok (.getfield 164, 3) := dk_180 0 164 (dk_at dksX0_forget_0 17 rfl rfl)
theorem dX0_forget_20 : decode cX0_forget 20 = .ok (.istore_n 2, 1) := dk_61 (dk_at dksX0_forget_0 20 rfl rfl)
theorem dX0_forget_21 : decode cX0_forget 21 = .ok (.aload_n 0, 1) := dk_42 (dk_at dksX0_forget_0 21 rfl rfl)
theorem dX0_forget_22 : decode cX0_forget 22 = .ok (.iload_n 1, 1) := dk_27 (dk_at dksX0_forget_0 22 rfl rfl)
theorem dX0_forget_23 : decode cX0_forget 23 = .ok (.putfield 164, 3) := dk_181 0 164 (dk_at dksX0_forget_1 0 rfl rfl)
theorem dX0_forget_26 : decode cX0_forget 26 = .ok (.iload_n 2, 1) := dk_28 (dk_at dksX0_forget_1 3 rfl rfl)
theorem dX0_forget_27 : decode cX0_forget 27 = .ok (.ireturn, 1) := dk_172 (dk_at dksX0_forget_1 4 rfl rfl)
abbrev cX0_kinds : ByteArray := prog_1_method_59_code
def yX0_kinds : MethodName := ⟨RX0, "kinds", "(I)I"⟩
def dkwX0_kinds_1 : List UInt8 := [182, 1, 39, 153, 0, 9, 4, 29, 120, 167, 0, 4, 3, 128, 61, 132, 3, 1, 167, 255, 228, 28, 172]
abbrev dktX0_kinds_1 : List UInt8 := dkwX0_kinds_1 ++ []
def dkwX0_kinds_0 : List UInt8 := [42, 27, 182, 0, 190, 154, 0, 5, 2, 172, 3, 61, 3, 62, 29, 7, 162, 0, 29, 28, 42, 27, 3, 29]
abbrev dktX0_kinds_0 : List UInt8 := dkwX0_kinds_0 ++ dktX0_kinds_1
theorem dksX0_kinds_0 : cX0_kinds.data.toList.drop 0 = dktX0_kinds_0 := by decide +kernel
theorem dksX0_kinds_1 : cX0_kinds.data.toList.drop 24 = dktX0_kinds_1 := dk_seg dksX0_kinds_0 24 rfl rfl
theorem dX0_kinds_0 : decode cX0_kinds 0 = .ok (.aload_n 0, 1) := dk_42 (dk_at dksX0_kinds_0 0 rfl rfl)
theorem dX0_kinds_1 : decode cX0_kinds 1 = .ok (.iload_n 1, 1) := dk_27 (dk_at dksX0_kinds_0 1 rfl rfl)
theorem dX0_kinds_2 : decode cX0_kinds 2 = .ok (.invokevirtual 190, 3) := dk_182 0 190 (dk_at dksX0_kinds_0 2 rfl rfl)
theorem dX0_kinds_5 : decode cX0_kinds 5 = .ok (.ifCond .ne 5, 3) := dk_154 0 5 (dk_at dksX0_kinds_0 5 rfl rfl)
theorem dX0_kinds_8 : decode cX0_kinds 8 = .ok (.iconst (-1), 1) := dk_2 (dk_at dksX0_kinds_0 8 rfl rfl)
theorem dX0_kinds_9 : decode cX0_kinds 9 = .ok (.ireturn, 1) := dk_172 (dk_at dksX0_kinds_0 9 rfl rfl)
theorem dX0_kinds_10 : decode cX0_kinds 10 = .ok (.iconst 0, 1) := dk_3 (dk_at dksX0_kinds_0 10 rfl rfl)
theorem dX0_kinds_11 : decode cX0_kinds 11 = .ok (.istore_n 2, 1) := dk_61 (dk_at dksX0_kinds_0 11 rfl rfl)
theorem dX0_kinds_12 : decode cX0_kinds 12 = .ok (.iconst 0, 1) := dk_3 (dk_at dksX0_kinds_0 12 rfl rfl)
theorem dX0_kinds_13 : decode cX0_kinds 13 = .ok (.istore_n 3, 1) := dk_62 (dk_at dksX0_kinds_0 13 rfl rfl)
theorem dX0_kinds_14 : decode cX0_kinds 14 = .ok (.iload_n 3, 1) := dk_29 (dk_at dksX0_kinds_0 14 rfl rfl)
theorem dX0_kinds_15 : decode cX0_kinds 15 = .ok (.iconst 4, 1) := dk_7 (dk_at dksX0_kinds_0 15 rfl rfl)
theorem dX0_kinds_16 : decode cX0_kinds 16 = .ok (.if_icmp .ge 29, 3) := dk_162 0 29 (dk_at dksX0_kinds_0 16 rfl rfl)
theorem dX0_kinds_19 : decode cX0_kinds 19 = .ok (.iload_n 2, 1) := dk_28 (dk_at dksX0_kinds_0 19 rfl rfl)
theorem dX0_kinds_20 : decode cX0_kinds 20 = .ok (.aload_n 0, 1) := dk_42 (dk_at dksX0_kinds_0 20 rfl rfl)
theorem dX0_kinds_21 : decode cX0_kinds 21 = .ok (.iload_n 1, 1) := dk_27 (dk_at dksX0_kinds_0 21 rfl rfl)
theorem dX0_kinds_22 : decode cX0_kinds 22 = .ok (.iconst 0, 1) := dk_3 (dk_at dksX0_kinds_0 22 rfl rfl)
theorem dX0_kinds_23 : decode cX0_kinds 23 = .ok (.iload_n 3, 1) := dk_29 (dk_at dksX0_kinds_0 23 rfl rfl)
theorem dX0_kinds_24 : decode cX0_kinds 24 = .ok (.invokevirtual 295, 3) := dk_182 1 39 (dk_at dksX0_kinds_1 0 rfl rfl)
theorem dX0_kinds_27 : decode cX0_kinds 27 = .ok (.ifCond .eq 9, 3) := dk_153 0 9 (dk_at dksX0_kinds_1 3 rfl rfl)
theorem dX0_kinds_30 : decode cX0_kinds 30 = .ok (.iconst 1, 1) := dk_4 (dk_at dksX0_kinds_1 6 rfl rfl)
theorem dX0_kinds_31 : decode cX0_kinds 31 = .ok (.iload_n 3, 1) := dk_29 (dk_at dksX0_kinds_1 7 rfl rfl)
theorem dX0_kinds_32 : decode cX0_kinds 32 = .ok (.ishl, 1) := dk_120 (dk_at dksX0_kinds_1 8 rfl rfl)
theorem dX0_kinds_33 : decode cX0_kinds 33 = .ok (.goto 4, 3) := dk_167 0 4 (dk_at dksX0_kinds_1 9 rfl rfl)
theorem dX0_kinds_36 : decode cX0_kinds 36 = .ok (.iconst 0, 1) := dk_3 (dk_at dksX0_kinds_1 12 rfl rfl)
theorem dX0_kinds_37 : decode cX0_kinds 37 = .ok (.ior, 1) := dk_128 (dk_at dksX0_kinds_1 13 rfl rfl)
theorem dX0_kinds_38 : decode cX0_kinds 38 = .ok (.istore_n 2, 1) := dk_61 (dk_at dksX0_kinds_1 14 rfl rfl)
theorem dX0_kinds_39 : decode cX0_kinds 39 = .ok (.iinc 3 1, 3) := dk_132 3 1 (dk_at dksX0_kinds_1 15 rfl rfl)
theorem dX0_kinds_42 : decode cX0_kinds 42 = .ok (.goto (-28), 3) := dk_167 255 228 (dk_at dksX0_kinds_1 18 rfl rfl)
theorem dX0_kinds_45 : decode cX0_kinds 45 = .ok (.iload_n 2, 1) := dk_28 (dk_at dksX0_kinds_1 21 rfl rfl)
theorem dX0_kinds_46 : decode cX0_kinds 46 = .ok (.ireturn, 1) := dk_172 (dk_at dksX0_kinds_1 22 rfl rfl)
abbrev cX0_isSo : ByteArray := prog_1_method_58_code
def yX0_isSo : MethodName := ⟨RX0, "isSo", "(III)Z"⟩
def dkwX0_isSo_5 : List UInt8 := [160, 0, 7, 4, 167, 0, 4, 3, 54, 4, 132, 5, 1, 167, 255, 156, 21, 4, 172]
abbrev dktX0_isSo_5 : List UInt8 := dkwX0_isSo_5 ++ []
def dkwX0_isSo_4 : List UInt8 := [104, 4, 96, 51, 3, 182, 0, 66, 42, 180, 0, 22, 42, 180, 0, 121, 6, 21, 5, 104, 5, 96, 51]
abbrev dktX0_isSo_4 : List UInt8 := dkwX0_isSo_4 ++ dktX0_isSo_5
def dkwX0_isSo_3 : List UInt8 := [153, 0, 57, 42, 42, 180, 0, 114, 42, 180, 0, 121, 6, 21, 5, 104, 51, 42, 180, 0, 121, 6, 21, 5]
abbrev dktX0_isSo_3 : List UInt8 := dkwX0_isSo_3 ++ dktX0_isSo_4
def dkwX0_isSo_2 : List UInt8 := [21, 5, 104, 51, 42, 180, 0, 114, 180, 0, 187, 162, 0, 7, 4, 167, 0, 4, 3, 126, 54, 4, 21, 4]
abbrev dktX0_isSo_2 : List UInt8 := dkwX0_isSo_2 ++ dktX0_isSo_3
def dkwX0_isSo_1 : List UInt8 := [28, 96, 29, 145, 84, 3, 54, 5, 21, 5, 42, 180, 0, 164, 162, 0, 97, 21, 4, 42, 180, 0, 121, 6]
abbrev dktX0_isSo_1 : List UInt8 := dkwX0_isSo_1 ++ dktX0_isSo_2
def dkwX0_isSo_0 : List UInt8 := [4, 54, 4, 42, 180, 0, 114, 42, 180, 0, 110, 182, 0, 160, 42, 180, 0, 114, 180, 0, 16, 5, 27, 104]
abbrev dktX0_isSo_0 : List UInt8 := dkwX0_isSo_0 ++ dktX0_isSo_1
theorem dksX0_isSo_0 : cX0_isSo.data.toList.drop 0 = dktX0_isSo_0 := by decide +kernel
theorem dksX0_isSo_1 : cX0_isSo.data.toList.drop 24 = dktX0_isSo_1 := dk_seg dksX0_isSo_0 24 rfl rfl
theorem dksX0_isSo_2 : cX0_isSo.data.toList.drop 48 = dktX0_isSo_2 := dk_seg dksX0_isSo_1 24 rfl rfl
theorem dksX0_isSo_3 : cX0_isSo.data.toList.drop 72 = dktX0_isSo_3 := dk_seg dksX0_isSo_2 24 rfl rfl
theorem dksX0_isSo_4 : cX0_isSo.data.toList.drop 96 = dktX0_isSo_4 := dk_seg dksX0_isSo_3 24 rfl rfl
theorem dksX0_isSo_5 : cX0_isSo.data.toList.drop 119 = dktX0_isSo_5 := dk_seg dksX0_isSo_4 23 rfl rfl
theorem dX0_isSo_0 : decode cX0_isSo 0 = .ok (.iconst 1, 1) := dk_4 (dk_at dksX0_isSo_0 0 rfl rfl)
theorem dX0_isSo_1 : decode cX0_isSo 1 = .ok (.istore 4, 2) := dk_54 4 (dk_at dksX0_isSo_0 1 rfl rfl)
theorem dX0_isSo_3 : decode cX0_isSo 3 = .ok (.aload_n 0, 1) := dk_42 (dk_at dksX0_isSo_0 3 rfl rfl)
theorem dX0_isSo_4 : decode cX0_isSo 4 = .ok (.getfield 114, 3) := dk_180 0 114 (dk_at dksX0_isSo_0 4 rfl rfl)
theorem dX0_isSo_7 : decode cX0_isSo 7 = .ok (.aload_n 0, 1) := dk_42 (dk_at dksX0_isSo_0 7 rfl rfl)
theorem dX0_isSo_8 : decode cX0_isSo 8 = .ok (.getfield 110, 3) := dk_180 0 110 (dk_at dksX0_isSo_0 8 rfl rfl)
theorem dX0_isSo_11 : decode cX0_isSo 11 = .ok (.invokevirtual 160, 3) := dk_182 0 160 (dk_at dksX0_isSo_0 11 rfl rfl)
theorem dX0_isSo_14 : decode cX0_isSo 14 = .ok (.aload_n 0, 1) := dk_42 (dk_at dksX0_isSo_0 14 rfl rfl)
theorem dX0_isSo_15 : decode cX0_isSo 15 = .ok (.getfield 114, 3) := dk_180 0 114 (dk_at dksX0_isSo_0 15 rfl rfl)
theorem dX0_isSo_18 : decode cX0_isSo 18 = .ok (.getfield 16, 3) := dk_180 0 16 (dk_at dksX0_isSo_0 18 rfl rfl)
theorem dX0_isSo_21 : decode cX0_isSo 21 = .ok (.iconst 2, 1) := dk_5 (dk_at dksX0_isSo_0 21 rfl rfl)
theorem dX0_isSo_22 : decode cX0_isSo 22 = .ok (.iload_n 1, 1) := dk_27 (dk_at dksX0_isSo_0 22 rfl rfl)
theorem dX0_isSo_23 : decode cX0_isSo 23 = .ok (.imul, 1) := dk_104 (dk_at dksX0_isSo_0 23 rfl rfl)
theorem dX0_isSo_24 : decode cX0_isSo 24 = .ok (.iload_n 2, 1) := dk_28 (dk_at dksX0_isSo_1 0 rfl rfl)
theorem dX0_isSo_25 : decode cX0_isSo 25 = .ok (.iadd, 1) := dk_96 (dk_at dksX0_isSo_1 1 rfl rfl)
theorem dX0_isSo_26 : decode cX0_isSo 26 = .ok (.iload_n 3, 1) := dk_29 (dk_at dksX0_isSo_1 2 rfl rfl)
theorem dX0_isSo_27 : decode cX0_isSo 27 = .ok (.i2b, 1) := dk_145 (dk_at dksX0_isSo_1 3 rfl rfl)
theorem dX0_isSo_28 : decode cX0_isSo 28 = .ok (.bastore, 1) := dk_84 (dk_at dksX0_isSo_1 4 rfl rfl)
theorem dX0_isSo_29 : decode cX0_isSo 29 = .ok (.iconst 0, 1) := dk_3 (dk_at dksX0_isSo_1 5 rfl rfl)
theorem dX0_isSo_30 : decode cX0_isSo 30 = .ok (.istore 5, 2) := dk_54 5 (dk_at dksX0_isSo_1 6 rfl rfl)
theorem dX0_isSo_32 : decode cX0_isSo 32 = .ok (.iload 5, 2) := dk_21 5 (dk_at dksX0_isSo_1 8 rfl rfl)
theorem dX0_isSo_34 : decode cX0_isSo 34 = .ok (.aload_n 0, 1) := dk_42 (dk_at dksX0_isSo_1 10 rfl rfl)
theorem dX0_isSo_35 : decode cX0_isSo 35 = .ok (.getfield 164, 3) := dk_180 0 164 (dk_at dksX0_isSo_1 11 rfl rfl)
theorem dX0_isSo_38 : decode cX0_isSo 38 = .ok (.if_icmp .ge 97, 3) := dk_162 0 97 (dk_at dksX0_isSo_1 14 rfl rfl)
theorem dX0_isSo_41 : decode cX0_isSo 41 = .ok (.iload 4, 2) := dk_21 4 (dk_at dksX0_isSo_1 17 rfl rfl)
theorem dX0_isSo_43 : decode cX0_isSo 43 = .ok (.aload_n 0, 1) := dk_42 (dk_at dksX0_isSo_1 19 rfl rfl)
theorem dX0_isSo_44 : decode cX0_isSo 44 = .ok (.getfield 121, 3) := dk_180 0 121 (dk_at dksX0_isSo_1 20 rfl rfl)
theorem dX0_isSo_47 : decode cX0_isSo 47 = .ok (.iconst 3, 1) := dk_6 (dk_at dksX0_isSo_1 23 rfl rfl)
theorem dX0_isSo_48 : decode cX0_isSo 48 = .ok (.iload 5, 2) := dk_21 5 (dk_at dksX0_isSo_2 0 rfl rfl)
theorem dX0_isSo_50 : decode cX0_isSo 50 = .ok (.imul, 1) := dk_104 (dk_at dksX0_isSo_2 2 rfl rfl)
theorem dX0_isSo_51 : decode cX0_isSo 51 = .ok (.baload, 1) := dk_51 (dk_at dksX0_isSo_2 3 rfl rfl)
theorem dX0_isSo_52 : decode cX0_isSo 52 = .ok (.aload_n 0, 1) := dk_42 (dk_at dksX0_isSo_2 4 rfl rfl)
theorem dX0_isSo_53 : decode cX0_isSo 53 = .ok (.getfield 114, 3) := dk_180 0 114 (dk_at dksX0_isSo_2 5 rfl rfl)
theorem dX0_isSo_56 : decode cX0_isSo 56 = .ok (.getfield 187, 3) := dk_180 0 187 (dk_at dksX0_isSo_2 8 rfl rfl)
theorem dX0_isSo_59 : decode cX0_isSo 59 = .ok (.if_icmp .ge 7, 3) := dk_162 0 7 (dk_at dksX0_isSo_2 11 rfl rfl)
theorem dX0_isSo_62 : decode cX0_isSo 62 = .ok (.iconst 1, 1) := dk_4 (dk_at dksX0_isSo_2 14 rfl rfl)
theorem dX0_isSo_63 : decode cX0_isSo 63 = .ok (.goto 4, 3) := dk_167 0 4 (dk_at dksX0_isSo_2 15 rfl rfl)
theorem dX0_isSo_66 : decode cX0_isSo 66 = .ok (.iconst 0, 1) := dk_3 (dk_at dksX0_isSo_2 18 rfl rfl)
theorem dX0_isSo_67 : decode cX0_isSo 67 = .ok (.iand, 1) := dk_126 (dk_at dksX0_isSo_2 19 rfl rfl)
theorem dX0_isSo_68 : decode cX0_isSo 68 = .ok (.istore 4, 2) := dk_54 4 (dk_at dksX0_isSo_2 20 rfl rfl)
theorem dX0_isSo_70 : decode cX0_isSo 70 = .ok (.iload 4, 2) := dk_21 4 (dk_at dksX0_isSo_2 22 rfl rfl)
theorem dX0_isSo_72 : decode cX0_isSo 72 = .ok (.ifCond .eq 57, 3) := dk_153 0 57 (dk_at dksX0_isSo_3 0 rfl rfl)
theorem dX0_isSo_75 : decode cX0_isSo 75 = .ok (.aload_n 0, 1) := dk_42 (dk_at dksX0_isSo_3 3 rfl rfl)
theorem dX0_isSo_76 : decode cX0_isSo 76 = .ok (.aload_n 0, 1) := dk_42 (dk_at dksX0_isSo_3 4 rfl rfl)
theorem dX0_isSo_77 : decode cX0_isSo 77 = .ok (.getfield 114, 3) := dk_180 0 114 (dk_at dksX0_isSo_3 5 rfl rfl)
theorem dX0_isSo_80 : decode cX0_isSo 80 = .ok (.aload_n 0, 1) := dk_42 (dk_at dksX0_isSo_3 8 rfl rfl)
theorem dX0_isSo_81 : decode cX0_isSo 81 = .ok (.getfield 121, 3) := dk_180 0 121 (dk_at dksX0_isSo_3 9 rfl rfl)
theorem dX0_isSo_84 : decode cX0_isSo 84 = .ok (.iconst 3, 1) := dk_6 (dk_at dksX0_isSo_3 12 rfl rfl)
theorem dX0_isSo_85 : decode cX0_isSo 85 = .ok (.iload 5, 2) := dk_21 5 (dk_at dksX0_isSo_3 13 rfl rfl)
theorem dX0_isSo_87 : decode cX0_isSo 87 = .ok (.imul, 1) := dk_104 (dk_at dksX0_isSo_3 15 rfl rfl)
theorem dX0_isSo_88 : decode cX0_isSo 88 = .ok (.baload, 1) := dk_51 (dk_at dksX0_isSo_3 16 rfl rfl)
theorem dX0_isSo_89 : decode cX0_isSo 89 = .ok (.aload_n 0, 1) := dk_42 (dk_at dksX0_isSo_3 17 rfl rfl)
theorem dX0_isSo_90 : decode cX0_isSo 90 = .ok (.getfield 121, 3) := dk_180 0 121 (dk_at dksX0_isSo_3 18 rfl rfl)
theorem dX0_isSo_93 : decode cX0_isSo 93 = .ok (.iconst 3, 1) := dk_6 (dk_at dksX0_isSo_3 21 rfl rfl)
theorem dX0_isSo_94 : decode cX0_isSo 94 = .ok (.iload 5, 2) := dk_21 5 (dk_at dksX0_isSo_3 22 rfl rfl)
theorem dX0_isSo_96 : decode cX0_isSo 96 = .ok (.imul, 1) := dk_104 (dk_at dksX0_isSo_4 0 rfl rfl)
theorem dX0_isSo_97 : decode cX0_isSo 97 = .ok (.iconst 1, 1) := dk_4 (dk_at dksX0_isSo_4 1 rfl rfl)
theorem dX0_isSo_98 : decode cX0_isSo 98 = .ok (.iadd, 1) := dk_96 (dk_at dksX0_isSo_4 2 rfl rfl)
theorem dX0_isSo_99 : decode cX0_isSo 99 = .ok (.baload, 1) := dk_51 (dk_at dksX0_isSo_4 3 rfl rfl)
theorem dX0_isSo_100 : decode cX0_isSo 100 = .ok (.iconst 0, 1) := dk_3 (dk_at dksX0_isSo_4 4 rfl rfl)
theorem dX0_isSo_101 : decode cX0_isSo 101 = .ok (.invokevirtual 66, 3) := dk_182 0 66 (dk_at dksX0_isSo_4 5 rfl rfl)
theorem dX0_isSo_104 : decode cX0_isSo 104 = .ok (.aload_n 0, 1) := dk_42 (dk_at dksX0_isSo_4 8 rfl rfl)
theorem dX0_isSo_105 : decode cX0_isSo 105 = .ok (.getfield 22, 3) := dk_180 0 22 (dk_at dksX0_isSo_4 9 rfl rfl)
theorem dX0_isSo_108 : decode cX0_isSo 108 = .ok (.aload_n 0, 1) := dk_42 (dk_at dksX0_isSo_4 12 rfl rfl)
theorem dX0_isSo_109 : decode cX0_isSo 109 = .ok (.getfield 121, 3) := dk_180 0 121 (dk_at dksX0_isSo_4 13 rfl rfl)
theorem dX0_isSo_112 : decode cX0_isSo 112 = .ok (.iconst 3, 1) := dk_6 (dk_at dksX0_isSo_4 16 rfl rfl)
theorem dX0_isSo_113 : decode cX0_isSo 113 = .ok (.iload 5, 2) := dk_21 5 (dk_at dksX0_isSo_4 17 rfl rfl)
theorem dX0_isSo_115 : decode cX0_isSo 115 = .ok (.imul, 1) := dk_104 (dk_at dksX0_isSo_4 19 rfl rfl)
theorem dX0_isSo_116 : decode cX0_isSo 116 = .ok (.iconst 2, 1) := dk_5 (dk_at dksX0_isSo_4 20 rfl rfl)
theorem dX0_isSo_117 : decode cX0_isSo 117 = .ok (.iadd, 1) := dk_96 (dk_at dksX0_isSo_4 21 rfl rfl)
theorem dX0_isSo_118 : decode cX0_isSo 118 = .ok (.baload, 1) := dk_51 (dk_at dksX0_isSo_4 22 rfl rfl)
theorem dX0_isSo_119 : decode cX0_isSo 119 = .ok (.if_icmp .ne 7, 3) := dk_160 0 7 (dk_at dksX0_isSo_5 0 rfl rfl)
theorem dX0_isSo_122 : decode cX0_isSo 122 = .ok (.iconst 1, 1) := dk_4 (dk_at dksX0_isSo_5 3 rfl rfl)
theorem dX0_isSo_123 : decode cX0_isSo 123 = .ok (.goto 4, 3) := dk_167 0 4 (dk_at dksX0_isSo_5 4 rfl rfl)
theorem dX0_isSo_126 : decode cX0_isSo 126 = .ok (.iconst 0, 1) := dk_3 (dk_at dksX0_isSo_5 7 rfl rfl)
theorem dX0_isSo_127 : decode cX0_isSo 127 = .ok (.istore 4, 2) := dk_54 4 (dk_at dksX0_isSo_5 8 rfl rfl)
theorem dX0_isSo_129 : decode cX0_isSo 129 = .ok (.iinc 5 1, 3) := dk_132 5 1 (dk_at dksX0_isSo_5 10 rfl rfl)
theorem dX0_isSo_132 : decode cX0_isSo 132 = .ok (.goto (-100), 3) := dk_167 255 156 (dk_at dksX0_isSo_5 13 rfl rfl)
theorem dX0_isSo_135 : decode cX0_isSo 135 = .ok (.iload 4, 2) := dk_21 4 (dk_at dksX0_isSo_5 16 rfl rfl)
theorem dX0_isSo_137 : decode cX0_isSo 137 = .ok (.ireturn, 1) := dk_172 (dk_at dksX0_isSo_5 18 rfl rfl)
abbrev cX0_speeds : ByteArray := prog_1_method_61_code
def yX0_speeds : MethodName := ⟨RX0, "speeds", "(I)I"⟩
def dkwX0_speeds_0 : List UInt8 := [42, 27, 182, 0, 190, 153, 0, 11, 42, 27, 182, 1, 43, 167, 0, 4, 2, 172]
abbrev dktX0_speeds_0 : List UInt8 := dkwX0_speeds_0 ++ []
theorem dksX0_speeds_0 : cX0_speeds.data.toList.drop 0 = dktX0_speeds_0 := by decide +kernel
theorem dX0_speeds_0 : decode cX0_speeds 0 = .ok (.aload_n 0, 1) := dk_42 (dk_at dksX0_speeds_0 0 rfl rfl)
theorem dX0_speeds_1 : decode cX0_speeds 1 = .ok (.iload_n 1, 1) := dk_27 (dk_at dksX0_speeds_0 1 rfl rfl)
theorem dX0_speeds_2 : decode cX0_speeds 2 = .ok (.invokevirtual 190, 3) := dk_182 0 190 (dk_at dksX0_speeds_0 2 rfl rfl)
theorem dX0_speeds_5 : decode cX0_speeds 5 = .ok (.ifCond .eq 11, 3) := dk_153 0 11 (dk_at dksX0_speeds_0 5 rfl rfl)
theorem dX0_speeds_8 : decode cX0_speeds 8 = .ok (.aload_n 0, 1) := dk_42 (dk_at dksX0_speeds_0 8 rfl rfl)
theorem dX0_speeds_9 : decode cX0_speeds 9 = .ok (.iload_n 1, 1) := dk_27 (dk_at dksX0_speeds_0 9 rfl rfl)
theorem dX0_speeds_10 : decode cX0_speeds 10 = .ok (.invokevirtual 299, 3) := dk_182 1 43 (dk_at dksX0_speeds_0 10 rfl rfl)
theorem dX0_speeds_13 : decode cX0_speeds 13 = .ok (.goto 4, 3) := dk_167 0 4 (dk_at dksX0_speeds_0 13 rfl rfl)
theorem dX0_speeds_16 : decode cX0_speeds 16 = .ok (.iconst (-1), 1) := dk_2 (dk_at dksX0_speeds_0 16 rfl rfl)
theorem dX0_speeds_17 : decode cX0_speeds 17 = .ok (.ireturn, 1) := dk_172 (dk_at dksX0_speeds_0 17 rfl rfl)
abbrev cX0_speedsOf : ByteArray := prog_1_method_60_code
def yX0_speedsOf : MethodName := ⟨RX0, "speedsOf", "(I)I"⟩
def dkwX0_speedsOf_1 : List UInt8 := [167, 0, 4, 3, 128, 61, 132, 3, 1, 167, 255, 227, 28, 172]
abbrev dktX0_speedsOf_1 : List UInt8 := dkwX0_speedsOf_1 ++ []
def dkwX0_speedsOf_0 : List UInt8 := [3, 61, 4, 62, 29, 16, 9, 163, 0, 29, 28, 42, 27, 4, 29, 182, 1, 39, 153, 0, 9, 4, 29, 120]
abbrev dktX0_speedsOf_0 : List UInt8 := dkwX0_speedsOf_0 ++ dktX0_speedsOf_1
theorem dksX0_speedsOf_0 : cX0_speedsOf.data.toList.drop 0 = dktX0_speedsOf_0 := by decide +kernel
theorem dksX0_speedsOf_1 : cX0_speedsOf.data.toList.drop 24 = dktX0_speedsOf_1 := dk_seg dksX0_speedsOf_0 24 rfl rfl
theorem dX0_speedsOf_0 : decode cX0_speedsOf 0 = .ok (.iconst 0, 1) := dk_3 (dk_at dksX0_speedsOf_0 0 rfl rfl)
theorem dX0_speedsOf_1 : decode cX0_speedsOf 1 = .ok (.istore_n 2, 1) := dk_61 (dk_at dksX0_speedsOf_0 1 rfl rfl)
theorem dX0_speedsOf_2 : decode cX0_speedsOf 2 = .ok (.iconst 1, 1) := dk_4 (dk_at dksX0_speedsOf_0 2 rfl rfl)
theorem dX0_speedsOf_3 : decode cX0_speedsOf 3 = .ok (.istore_n 3, 1) := dk_62 (dk_at dksX0_speedsOf_0 3 rfl rfl)
theorem dX0_speedsOf_4 : decode cX0_speedsOf 4 = .ok (.iload_n 3, 1) := dk_29 (dk_at dksX0_speedsOf_0 4 rfl rfl)
theorem dX0_speedsOf_5 : decode cX0_speedsOf 5 = .ok (.bipush 9, 2) := dk_16 9 (dk_at dksX0_speedsOf_0 5 rfl rfl)
theorem dX0_speedsOf_7 : decode cX0_speedsOf 7 = .ok (.if_icmp .gt 29, 3) := dk_163 0 29 (dk_at dksX0_speedsOf_0 7 rfl rfl)
theorem dX0_speedsOf_10 : decode cX0_speedsOf 10 = .ok (.iload_n 2, 1) := dk_28 (dk_at dksX0_speedsOf_0 10 rfl rfl)
theorem dX0_speedsOf_11 : decode cX0_speedsOf 11 = .ok (.aload_n 0, 1) := dk_42 (dk_at dksX0_speedsOf_0 11 rfl rfl)
theorem dX0_speedsOf_12 : decode cX0_speedsOf 12 = .ok (.iload_n 1, 1) := dk_27 (dk_at dksX0_speedsOf_0 12 rfl rfl)
theorem dX0_speedsOf_13 : decode cX0_speedsOf 13 = .ok (.iconst 1, 1) := dk_4 (dk_at dksX0_speedsOf_0 13 rfl rfl)
theorem dX0_speedsOf_14 : decode cX0_speedsOf 14 = .ok (.iload_n 3, 1) := dk_29 (dk_at dksX0_speedsOf_0 14 rfl rfl)
theorem dX0_speedsOf_15 : decode cX0_speedsOf 15 = .ok (.invokevirtual 295, 3) := dk_182 1 39 (dk_at dksX0_speedsOf_0 15 rfl rfl)
theorem dX0_speedsOf_18 : decode cX0_speedsOf 18 = .ok (.ifCond .eq 9, 3) := dk_153 0 9 (dk_at dksX0_speedsOf_0 18 rfl rfl)
theorem dX0_speedsOf_21 : decode cX0_speedsOf 21 = .ok (.iconst 1, 1) := dk_4 (dk_at dksX0_speedsOf_0 21 rfl rfl)
theorem dX0_speedsOf_22 : decode cX0_speedsOf 22 = .ok (.iload_n 3, 1) := dk_29 (dk_at dksX0_speedsOf_0 22 rfl rfl)
theorem dX0_speedsOf_23 : decode cX0_speedsOf 23 = .ok (.ishl, 1) := dk_120 (dk_at dksX0_speedsOf_0 23 rfl rfl)
theorem dX0_speedsOf_24 : decode cX0_speedsOf 24 = .ok (.goto 4, 3) := dk_167 0 4 (dk_at dksX0_speedsOf_1 0 rfl rfl)
theorem dX0_speedsOf_27 : decode cX0_speedsOf 27 = .ok (.iconst 0, 1) := dk_3 (dk_at dksX0_speedsOf_1 3 rfl rfl)
theorem dX0_speedsOf_28 : decode cX0_speedsOf 28 = .ok (.ior, 1) := dk_128 (dk_at dksX0_speedsOf_1 4 rfl rfl)
theorem dX0_speedsOf_29 : decode cX0_speedsOf 29 = .ok (.istore_n 2, 1) := dk_61 (dk_at dksX0_speedsOf_1 5 rfl rfl)
theorem dX0_speedsOf_30 : decode cX0_speedsOf 30 = .ok (.iinc 3 1, 3) := dk_132 3 1 (dk_at dksX0_speedsOf_1 6 rfl rfl)
theorem dX0_speedsOf_33 : decode cX0_speedsOf 33 = .ok (.goto (-29), 3) := dk_167 255 227 (dk_at dksX0_speedsOf_1 9 rfl rfl)
theorem dX0_speedsOf_36 : decode cX0_speedsOf 36 = .ok (.iload_n 2, 1) := dk_28 (dk_at dksX0_speedsOf_1 12 rfl rfl)
theorem dX0_speedsOf_37 : decode cX0_speedsOf 37 = .ok (.ireturn, 1) := dk_172 (dk_at dksX0_speedsOf_1 13 rfl rfl)
abbrev cX0_ask : ByteArray := prog_1_method_63_code
def yX0_ask : MethodName := ⟨RX0, "ask", "(II)I"⟩
def dkwX0_ask_4 : List UInt8 := [167, 0, 14, 28, 154, 0, 8, 21, 5, 167, 0, 5, 21, 4, 172]
abbrev dktX0_ask_4 : List UInt8 := dkwX0_ask_4 ++ []
def dkwX0_ask_3 : List UInt8 := [21, 7, 184, 0, 3, 54, 4, 132, 6, 1, 167, 255, 211, 21, 5, 16, 252, 160, 0, 8, 16, 252]
abbrev dktX0_ask_3 : List UInt8 := dkwX0_ask_3 ++ dktX0_ask_4
def dkwX0_ask_2 : List UInt8 := [182, 1, 46, 54, 7, 21, 7, 21, 4, 162, 0, 8, 21, 6, 167, 0, 5, 21, 5, 54, 5, 21, 4]
abbrev dktX0_ask_2 : List UInt8 := dkwX0_ask_2 ++ dktX0_ask_3
def dkwX0_ask_1 : List UInt8 := [184, 0, 88, 54, 4, 16, 252, 54, 5, 3, 54, 6, 21, 6, 16, 8, 162, 0, 44, 42, 27, 21, 6, 29]
abbrev dktX0_ask_1 : List UInt8 := dkwX0_ask_1 ++ dktX0_ask_2
def dkwX0_ask_0 : List UInt8 := [42, 27, 182, 0, 190, 153, 0, 10, 28, 184, 0, 249, 154, 0, 5, 2, 172, 42, 27, 182, 1, 43, 62, 29]
abbrev dktX0_ask_0 : List UInt8 := dkwX0_ask_0 ++ dktX0_ask_1
theorem dksX0_ask_0 : cX0_ask.data.toList.drop 0 = dktX0_ask_0 := by decide +kernel
theorem dksX0_ask_1 : cX0_ask.data.toList.drop 24 = dktX0_ask_1 := dk_seg dksX0_ask_0 24 rfl rfl
theorem dksX0_ask_2 : cX0_ask.data.toList.drop 48 = dktX0_ask_2 := dk_seg dksX0_ask_1 24 rfl rfl
theorem dksX0_ask_3 : cX0_ask.data.toList.drop 71 = dktX0_ask_3 := dk_seg dksX0_ask_2 23 rfl rfl
theorem dksX0_ask_4 : cX0_ask.data.toList.drop 93 = dktX0_ask_4 := dk_seg dksX0_ask_3 22 rfl rfl
theorem dX0_ask_0 : decode cX0_ask 0 = .ok (.aload_n 0, 1) := dk_42 (dk_at dksX0_ask_0 0 rfl rfl)
theorem dX0_ask_1 : decode cX0_ask 1 = .ok (.iload_n 1, 1) := dk_27 (dk_at dksX0_ask_0 1 rfl rfl)
theorem dX0_ask_2 : decode cX0_ask 2 = .ok (.invokevirtual 190, 3) := dk_182 0 190 (dk_at dksX0_ask_0 2 rfl rfl)
theorem dX0_ask_5 : decode cX0_ask 5 = .ok (.ifCond .eq 10, 3) := dk_153 0 10 (dk_at dksX0_ask_0 5 rfl rfl)
theorem dX0_ask_8 : decode cX0_ask 8 = .ok (.iload_n 2, 1) := dk_28 (dk_at dksX0_ask_0 8 rfl rfl)
theorem dX0_ask_9 : decode cX0_ask 9 = .ok (.invokestatic 249, 3) := dk_184 0 249 (dk_at dksX0_ask_0 9 rfl rfl)
theorem dX0_ask_12 : decode cX0_ask 12 = .ok (.ifCond .ne 5, 3) := dk_154 0 5 (dk_at dksX0_ask_0 12 rfl rfl)
theorem dX0_ask_15 : decode cX0_ask 15 = .ok (.iconst (-1), 1) := dk_2 (dk_at dksX0_ask_0 15 rfl rfl)
theorem dX0_ask_16 : decode cX0_ask 16 = .ok (.ireturn, 1) := dk_172 (dk_at dksX0_ask_0 16 rfl rfl)
theorem dX0_ask_17 : decode cX0_ask 17 = .ok (.aload_n 0, 1) := dk_42 (dk_at dksX0_ask_0 17 rfl rfl)
theorem dX0_ask_18 : decode cX0_ask 18 = .ok (.iload_n 1, 1) := dk_27 (dk_at dksX0_ask_0 18 rfl rfl)
theorem dX0_ask_19 : decode cX0_ask 19 = .ok (.invokevirtual 299, 3) := dk_182 1 43 (dk_at dksX0_ask_0 19 rfl rfl)
theorem dX0_ask_22 : decode cX0_ask 22 = .ok (.istore_n 3, 1) := dk_62 (dk_at dksX0_ask_0 22 rfl rfl)
theorem dX0_ask_23 : decode cX0_ask 23 = .ok (.iload_n 3, 1) := dk_29 (dk_at dksX0_ask_0 23 rfl rfl)
theorem dX0_ask_24 : decode cX0_ask 24 = .ok (.invokestatic 88, 3) := dk_184 0 88 (dk_at dksX0_ask_1 0 rfl rfl)
theorem dX0_ask_27 : decode cX0_ask 27 = .ok (.istore 4, 2) := dk_54 4 (dk_at dksX0_ask_1 3 rfl rfl)
theorem dX0_ask_29 : decode cX0_ask 29 = .ok (.bipush (-4), 2) := dk_16 252 (dk_at dksX0_ask_1 5 rfl rfl)
theorem dX0_ask_31 : decode cX0_ask 31 = .ok (.istore 5, 2) := dk_54 5 (dk_at dksX0_ask_1 7 rfl rfl)
theorem dX0_ask_33 : decode cX0_ask 33 = .ok (.iconst 0, 1) := dk_3 (dk_at dksX0_ask_1 9 rfl rfl)
theorem dX0_ask_34 : decode cX0_ask 34 = .ok (.istore 6, 2) := dk_54 6 (dk_at dksX0_ask_1 10 rfl rfl)
theorem dX0_ask_36 : decode cX0_ask 36 = .ok (.iload 6, 2) := dk_21 6 (dk_at dksX0_ask_1 12 rfl rfl)
theorem dX0_ask_38 : decode cX0_ask 38 = .ok (.bipush 8, 2) := dk_16 8 (dk_at dksX0_ask_1 14 rfl rfl)
theorem dX0_ask_40 : decode cX0_ask 40 = .ok (.if_icmp .ge 44, 3) := dk_162 0 44 (dk_at dksX0_ask_1 16 rfl rfl)
theorem dX0_ask_43 : decode cX0_ask 43 = .ok (.aload_n 0, 1) := dk_42 (dk_at dksX0_ask_1 19 rfl rfl)
theorem dX0_ask_44 : decode cX0_ask 44 = .ok (.iload_n 1, 1) := dk_27 (dk_at dksX0_ask_1 20 rfl rfl)
theorem dX0_ask_45 : decode cX0_ask 45 = .ok (.iload 6, 2) := dk_21 6 (dk_at dksX0_ask_1 21 rfl rfl)
theorem dX0_ask_47 : decode cX0_ask 47 = .ok (.iload_n 3, 1) := dk_29 (dk_at dksX0_ask_1 23 rfl rfl)
theorem dX0_ask_48 : decode cX0_ask 48 = .ok (.invokevirtual 302, 3) := dk_182 1 46 (dk_at dksX0_ask_2 0 rfl rfl)
theorem dX0_ask_51 : decode cX0_ask 51 = .ok (.istore 7, 2) := dk_54 7 (dk_at dksX0_ask_2 3 rfl rfl)
theorem dX0_ask_53 : decode cX0_ask 53 = .ok (.iload 7, 2) := dk_21 7 (dk_at dksX0_ask_2 5 rfl rfl)
theorem dX0_ask_55 : decode cX0_ask 55 = .ok (.iload 4, 2) := dk_21 4 (dk_at dksX0_ask_2 7 rfl rfl)
theorem dX0_ask_57 : decode cX0_ask 57 = .ok (.if_icmp .ge 8, 3) := dk_162 0 8 (dk_at dksX0_ask_2 9 rfl rfl)
theorem dX0_ask_60 : decode cX0_ask 60 = .ok (.iload 6, 2) := dk_21 6 (dk_at dksX0_ask_2 12 rfl rfl)
theorem dX0_ask_62 : decode cX0_ask 62 = .ok (.goto 5, 3) := dk_167 0 5 (dk_at dksX0_ask_2 14 rfl rfl)
theorem dX0_ask_65 : decode cX0_ask 65 = .ok (.iload 5, 2) := dk_21 5 (dk_at dksX0_ask_2 17 rfl rfl)
theorem dX0_ask_67 : decode cX0_ask 67 = .ok (.istore 5, 2) := dk_54 5 (dk_at dksX0_ask_2 19 rfl rfl)
theorem dX0_ask_69 : decode cX0_ask 69 = .ok (.iload 4, 2) := dk_21 4 (dk_at dksX0_ask_2 21 rfl rfl)
theorem dX0_ask_71 : decode cX0_ask 71 = .ok (.iload 7, 2) := dk_21 7 (dk_at dksX0_ask_3 0 rfl rfl)
theorem dX0_ask_73 : decode cX0_ask 73 = .ok (.invokestatic 3, 3) := dk_184 0 3 (dk_at dksX0_ask_3 2 rfl rfl)
theorem dX0_ask_76 : decode cX0_ask 76 = .ok (.istore 4, 2) := dk_54 4 (dk_at dksX0_ask_3 5 rfl rfl)
theorem dX0_ask_78 : decode cX0_ask 78 = .ok (.iinc 6 1, 3) := dk_132 6 1 (dk_at dksX0_ask_3 7 rfl rfl)
theorem dX0_ask_81 : decode cX0_ask 81 = .ok (.goto (-45), 3) := dk_167 255 211 (dk_at dksX0_ask_3 10 rfl rfl)
theorem dX0_ask_84 : decode cX0_ask 84 = .ok (.iload 5, 2) := dk_21 5 (dk_at dksX0_ask_3 13 rfl rfl)
theorem dX0_ask_86 : decode cX0_ask 86 = .ok (.bipush (-4), 2) := dk_16 252 (dk_at dksX0_ask_3 15 rfl rfl)
theorem dX0_ask_88 : decode cX0_ask 88 = .ok (.if_icmp .ne 8, 3) := dk_160 0 8 (dk_at dksX0_ask_3 17 rfl rfl)
theorem dX0_ask_91 : decode cX0_ask 91 = .ok (.bipush (-4), 2) := dk_16 252 (dk_at dksX0_ask_3 20 rfl rfl)
theorem dX0_ask_93 : decode cX0_ask 93 = .ok (.goto 14, 3) := dk_167 0 14 (dk_at dksX0_ask_4 0 rfl rfl)
theorem dX0_ask_96 : decode cX0_ask 96 = .ok (.iload_n 2, 1) := dk_28 (dk_at dksX0_ask_4 3 rfl rfl)
theorem dX0_ask_97 : decode cX0_ask 97 = .ok (.ifCond .ne 8, 3) := dk_154 0 8 (dk_at dksX0_ask_4 4 rfl rfl)
theorem dX0_ask_100 : decode cX0_ask 100 = .ok (.iload 5, 2) := dk_21 5 (dk_at dksX0_ask_4 7 rfl rfl)
theorem dX0_ask_102 : decode cX0_ask 102 = .ok (.goto 5, 3) := dk_167 0 5 (dk_at dksX0_ask_4 9 rfl rfl)
theorem dX0_ask_105 : decode cX0_ask 105 = .ok (.iload 4, 2) := dk_21 4 (dk_at dksX0_ask_4 12 rfl rfl)
theorem dX0_ask_107 : decode cX0_ask 107 = .ok (.ireturn, 1) := dk_172 (dk_at dksX0_ask_4 14 rfl rfl)
abbrev cX0_worstFrom : ByteArray := prog_1_method_62_code
def yX0_worstFrom : MethodName := ⟨RX0, "worstFrom", "(III)I"⟩
def dkwX0_worstFrom_5 : List UInt8 := [180, 0, 127, 21, 6, 51, 184, 0, 9, 54, 4, 132, 5, 1, 167, 255, 164, 21, 4, 172]
abbrev dktX0_worstFrom_5 : List UInt8 := dkwX0_worstFrom_5 ++ []
def dkwX0_worstFrom_4 : List UInt8 := [167, 0, 7, 42, 180, 0, 22, 54, 6, 42, 180, 0, 127, 21, 6, 92, 51, 4, 96, 145, 84, 21, 4, 42]
abbrev dktX0_worstFrom_4 : List UInt8 := dkwX0_worstFrom_4 ++ dktX0_worstFrom_5
def dkwX0_worstFrom_3 : List UInt8 := [84, 42, 42, 180, 0, 114, 27, 28, 3, 182, 0, 66, 42, 180, 0, 22, 16, 252, 160, 0, 8, 16, 7]
abbrev dktX0_worstFrom_3 : List UInt8 := dkwX0_worstFrom_3 ++ dktX0_worstFrom_4
def dkwX0_worstFrom_2 : List UInt8 := [29, 21, 5, 184, 0, 56, 153, 0, 76, 42, 180, 0, 114, 180, 0, 16, 5, 27, 104, 4, 96, 21, 5, 145]
abbrev dktX0_worstFrom_2 : List UInt8 := dkwX0_worstFrom_2 ++ dktX0_worstFrom_3
def dkwX0_worstFrom_1 : List UInt8 := [167, 255, 238, 42, 180, 0, 114, 42, 180, 0, 110, 182, 0, 160, 4, 54, 5, 21, 5, 16, 9, 163, 0, 91]
abbrev dktX0_worstFrom_1 : List UInt8 := dkwX0_worstFrom_1 ++ dktX0_worstFrom_2
def dkwX0_worstFrom_0 : List UInt8 := [3, 54, 4, 3, 54, 5, 21, 5, 16, 7, 163, 0, 17, 42, 180, 0, 127, 21, 5, 3, 84, 132, 5, 1]
abbrev dktX0_worstFrom_0 : List UInt8 := dkwX0_worstFrom_0 ++ dktX0_worstFrom_1
theorem dksX0_worstFrom_0 : cX0_worstFrom.data.toList.drop 0 = dktX0_worstFrom_0 := by decide +kernel
theorem dksX0_worstFrom_1 : cX0_worstFrom.data.toList.drop 24 = dktX0_worstFrom_1 := dk_seg dksX0_worstFrom_0 24 rfl rfl
theorem dksX0_worstFrom_2 : cX0_worstFrom.data.toList.drop 48 = dktX0_worstFrom_2 := dk_seg dksX0_worstFrom_1 24 rfl rfl
theorem dksX0_worstFrom_3 : cX0_worstFrom.data.toList.drop 72 = dktX0_worstFrom_3 := dk_seg dksX0_worstFrom_2 24 rfl rfl
theorem dksX0_worstFrom_4 : cX0_worstFrom.data.toList.drop 95 = dktX0_worstFrom_4 := dk_seg dksX0_worstFrom_3 23 rfl rfl
theorem dksX0_worstFrom_5 : cX0_worstFrom.data.toList.drop 119 = dktX0_worstFrom_5 := dk_seg dksX0_worstFrom_4 24 rfl rfl
theorem dX0_worstFrom_0 : decode cX0_worstFrom 0 = .ok (.iconst 0, 1) := dk_3 (dk_at dksX0_worstFrom_0 0 rfl rfl)
theorem dX0_worstFrom_1 : decode cX0_worstFrom 1 = .ok (.istore 4, 2) := dk_54 4 (dk_at dksX0_worstFrom_0 1 rfl rfl)
theorem dX0_worstFrom_3 : decode cX0_worstFrom 3 = .ok (.iconst 0, 1) := dk_3 (dk_at dksX0_worstFrom_0 3 rfl rfl)
theorem dX0_worstFrom_4 : decode cX0_worstFrom 4 = .ok (.istore 5, 2) := dk_54 5 (dk_at dksX0_worstFrom_0 4 rfl rfl)
theorem dX0_worstFrom_6 : decode cX0_worstFrom 6 = .ok (.iload 5, 2) := dk_21 5 (dk_at dksX0_worstFrom_0 6 rfl rfl)
theorem dX0_worstFrom_8 : decode cX0_worstFrom 8 = .ok (.bipush 7, 2) := dk_16 7 (dk_at dksX0_worstFrom_0 8 rfl rfl)
theorem dX0_worstFrom_10 : decode cX0_worstFrom 10 = .ok (.if_icmp .gt 17, 3) := dk_163 0 17 (dk_at dksX0_worstFrom_0 10 rfl rfl)
theorem dX0_worstFrom_13 : decode cX0_worstFrom 13 = .ok (.aload_n 0, 1) := dk_42 (dk_at dksX0_worstFrom_0 13 rfl rfl)
theorem dX0_worstFrom_14 : decode cX0_worstFrom 14 = .ok (.getfield 127, 3) := dk_180 0 127 (dk_at dksX0_worstFrom_0 14 rfl rfl)
theorem dX0_worstFrom_17 : decode cX0_worstFrom 17 = .ok (.iload 5, 2) := dk_21 5 (dk_at dksX0_worstFrom_0 17 rfl rfl)
theorem dX0_worstFrom_19 : decode cX0_worstFrom 19 = .ok (.iconst 0, 1) := dk_3 (dk_at dksX0_worstFrom_0 19 rfl rfl)
theorem dX0_worstFrom_20 : decode cX0_worstFrom 20 = .ok (.bastore, 1) := dk_84 (dk_at dksX0_worstFrom_0 20 rfl rfl)
theorem dX0_worstFrom_21 : decode cX0_worstFrom 21 = .ok (.iinc 5 1, 3) := dk_132 5 1 (dk_at dksX0_worstFrom_0 21 rfl rfl)
theorem dX0_worstFrom_24 : decode cX0_worstFrom 24 = .ok (.goto (-18), 3) := dk_167 255 238 (dk_at dksX0_worstFrom_1 0 rfl rfl)
theorem dX0_worstFrom_27 : decode cX0_worstFrom 27 = .ok (.aload_n 0, 1) := dk_42 (dk_at dksX0_worstFrom_1 3 rfl rfl)
theorem dX0_worstFrom_28 : decode cX0_worstFrom 28 = .ok (.getfield 114, 3) := dk_180 0 114 (dk_at dksX0_worstFrom_1 4 rfl rfl)
theorem dX0_worstFrom_31 : decode cX0_worstFrom 31 = .ok (.aload_n 0, 1) := dk_42 (dk_at dksX0_worstFrom_1 7 rfl rfl)
theorem dX0_worstFrom_32 : decode cX0_worstFrom 32 = .ok (.getfield 110, 3) := dk_180 0 110 (dk_at dksX0_worstFrom_1 8 rfl rfl)
theorem dX0_worstFrom_35 : decode cX0_worstFrom 35 = .ok (.invokevirtual 160, 3) := dk_182 0 160 (dk_at dksX0_worstFrom_1 11 rfl rfl)
theorem dX0_worstFrom_38 : decode cX0_worstFrom 38 = .ok (.iconst 1, 1) := dk_4 (dk_at dksX0_worstFrom_1 14 rfl rfl)
theorem dX0_worstFrom_39 : decode cX0_worstFrom 39 = .ok (.istore 5, 2) := dk_54 5 (dk_at dksX0_worstFrom_1 15 rfl rfl)
theorem dX0_worstFrom_41 : decode cX0_worstFrom 41 = .ok (.iload 5, 2) := dk_21 5 (dk_at dksX0_worstFrom_1 17 rfl rfl)
theorem dX0_worstFrom_43 : decode cX0_worstFrom 43 = .ok (.bipush 9, 2) := dk_16 9 (dk_at dksX0_worstFrom_1 19 rfl rfl)
theorem dX0_worstFrom_45 : decode cX0_worstFrom 45 = .ok (.if_icmp .gt 91, 3) := dk_163 0 91 (dk_at dksX0_worstFrom_1 21 rfl rfl)
theorem dX0_worstFrom_48 : decode cX0_worstFrom 48 = .ok (.iload_n 3, 1) := dk_29 (dk_at dksX0_worstFrom_2 0 rfl rfl)
theorem dX0_worstFrom_49 : decode cX0_worstFrom 49 = .ok (.iload 5, 2) := dk_21 5 (dk_at dksX0_worstFrom_2 1 rfl rfl)
theorem dX0_worstFrom_51 : decode cX0_worstFrom 51 = .ok (.invokestatic 56, 3) := dk_184 0 56 (dk_at dksX0_worstFrom_2 3 rfl rfl)
theorem dX0_worstFrom_54 : decode cX0_worstFrom 54 = .ok (.ifCond .eq 76, 3) := dk_153 0 76 (dk_at dksX0_worstFrom_2 6 rfl rfl)
theorem dX0_worstFrom_57 : decode cX0_worstFrom 57 = .ok (.aload_n 0, 1) := dk_42 (dk_at dksX0_worstFrom_2 9 rfl rfl)
theorem dX0_worstFrom_58 : decode cX0_worstFrom 58 = .ok (.getfield 114, 3) := dk_180 0 114 (dk_at dksX0_worstFrom_2 10 rfl rfl)
theorem dX0_worstFrom_61 : decode cX0_worstFrom 61 = .ok (.getfield 16, 3) := dk_180 0 16 (dk_at dksX0_worstFrom_2 13 rfl rfl)
theorem dX0_worstFrom_64 : decode cX0_worstFrom 64 = .ok (.iconst 2, 1) := dk_5 (dk_at dksX0_worstFrom_2 16 rfl rfl)
theorem dX0_worstFrom_65 : decode cX0_worstFrom 65 = .ok (.iload_n 1, 1) := dk_27 (dk_at dksX0_worstFrom_2 17 rfl rfl)
theorem dX0_worstFrom_66 : decode cX0_worstFrom 66 = .ok (.imul, 1) := dk_104 (dk_at dksX0_worstFrom_2 18 rfl rfl)
theorem dX0_worstFrom_67 : decode cX0_worstFrom 67 = .ok (.iconst 1, 1) := dk_4 (dk_at dksX0_worstFrom_2 19 rfl rfl)
theorem dX0_worstFrom_68 : decode cX0_worstFrom 68 = .ok (.iadd, 1) := dk_96 (dk_at dksX0_worstFrom_2 20 rfl rfl)
theorem dX0_worstFrom_69 : decode cX0_worstFrom 69 = .ok (.iload 5, 2) := dk_21 5 (dk_at dksX0_worstFrom_2 21 rfl rfl)
theorem dX0_worstFrom_71 : decode cX0_worstFrom 71 = .ok (.i2b, 1) := dk_145 (dk_at dksX0_worstFrom_2 23 rfl rfl)
theorem dX0_worstFrom_72 : decode cX0_worstFrom 72 = .ok (.bastore, 1) := dk_84 (dk_at dksX0_worstFrom_3 0 rfl rfl)
theorem dX0_worstFrom_73 : decode cX0_worstFrom 73 = .ok (.aload_n 0, 1) := dk_42 (dk_at dksX0_worstFrom_3 1 rfl rfl)
theorem dX0_worstFrom_74 : decode cX0_worstFrom 74 = .ok (.aload_n 0, 1) := dk_42 (dk_at dksX0_worstFrom_3 2 rfl rfl)
theorem dX0_worstFrom_75 : decode cX0_worstFrom 75 = .ok (.getfield 114, 3) := dk_180 0 114 (dk_at dksX0_worstFrom_3 3 rfl rfl)
theorem dX0_worstFrom_78 : decode cX0_worstFrom 78 = .ok (.iload_n 1, 1) := dk_27 (dk_at dksX0_worstFrom_3 6 rfl rfl)
theorem dX0_worstFrom_79 : decode cX0_worstFrom 79 = .ok (.iload_n 2, 1) := dk_28 (dk_at dksX0_worstFrom_3 7 rfl rfl)
theorem dX0_worstFrom_80 : decode cX0_worstFrom 80 = .ok (.iconst 0, 1) := dk_3 (dk_at dksX0_worstFrom_3 8 rfl rfl)
theorem dX0_worstFrom_81 : decode cX0_worstFrom 81 = .ok (.invokevirtual 66, 3) := dk_182 0 66 (dk_at dksX0_worstFrom_3 9 rfl rfl)
theorem dX0_worstFrom_84 : decode cX0_worstFrom 84 = .ok (.aload_n 0, 1) := dk_42 (dk_at dksX0_worstFrom_3 12 rfl rfl)
theorem dX0_worstFrom_85 : decode cX0_worstFrom 85 = .ok (.getfield 22, 3) := dk_180 0 22 (dk_at dksX0_worstFrom_3 13 rfl rfl)
theorem dX0_worstFrom_88 : decode cX0_worstFrom 88 = .ok (.bipush (-4), 2) := dk_16 252 (dk_at dksX0_worstFrom_3 16 rfl rfl)
theorem dX0_worstFrom_90 : decode cX0_worstFrom 90 = .ok (.if_icmp .ne 8, 3) := dk_160 0 8 (dk_at dksX0_worstFrom_3 18 rfl rfl)
theorem dX0_worstFrom_93 : decode cX0_worstFrom 93 = .ok (.bipush 7, 2) := dk_16 7 (dk_at dksX0_worstFrom_3 21 rfl rfl)
theorem dX0_worstFrom_95 : decode cX0_worstFrom 95 = .ok (.goto 7, 3) := dk_167 0 7 (dk_at dksX0_worstFrom_4 0 rfl rfl)
theorem dX0_worstFrom_98 : decode cX0_worstFrom 98 = .ok (.aload_n 0, 1) := dk_42 (dk_at dksX0_worstFrom_4 3 rfl rfl)
theorem dX0_worstFrom_99 : decode cX0_worstFrom 99 = .ok (.getfield 22, 3) := dk_180 0 22 (dk_at dksX0_worstFrom_4 4 rfl rfl)
theorem dX0_worstFrom_102 : decode cX0_worstFrom 102 = .ok (.istore 6, 2) := dk_54 6 (dk_at dksX0_worstFrom_4 7 rfl rfl)
theorem dX0_worstFrom_104 : decode cX0_worstFrom 104 = .ok (.aload_n 0, 1) := dk_42 (dk_at dksX0_worstFrom_4 9 rfl rfl)
theorem dX0_worstFrom_105 : decode cX0_worstFrom 105 = .ok (.getfield 127, 3) := dk_180 0 127 (dk_at dksX0_worstFrom_4 10 rfl rfl)
theorem dX0_worstFrom_108 : decode cX0_worstFrom 108 = .ok (.iload 6, 2) := dk_21 6 (dk_at dksX0_worstFrom_4 13 rfl rfl)
theorem dX0_worstFrom_110 : decode cX0_worstFrom 110 = .ok (.dup2, 1) := dk_92 (dk_at dksX0_worstFrom_4 15 rfl rfl)
theorem dX0_worstFrom_111 : decode cX0_worstFrom 111 = .ok (.baload, 1) := dk_51 (dk_at dksX0_worstFrom_4 16 rfl rfl)
theorem dX0_worstFrom_112 : decode cX0_worstFrom 112 = .ok (.iconst 1, 1) := dk_4 (dk_at dksX0_worstFrom_4 17 rfl rfl)
theorem dX0_worstFrom_113 : decode cX0_worstFrom 113 = .ok (.iadd, 1) := dk_96 (dk_at dksX0_worstFrom_4 18 rfl rfl)
theorem dX0_worstFrom_114 : decode cX0_worstFrom 114 = .ok (.i2b, 1) := dk_145 (dk_at dksX0_worstFrom_4 19 rfl rfl)
theorem dX0_worstFrom_115 : decode cX0_worstFrom 115 = .ok (.bastore, 1) := dk_84 (dk_at dksX0_worstFrom_4 20 rfl rfl)
theorem dX0_worstFrom_116 : decode cX0_worstFrom 116 = .ok (.iload 4, 2) := dk_21 4 (dk_at dksX0_worstFrom_4 21 rfl rfl)
theorem dX0_worstFrom_118 : decode cX0_worstFrom 118 = .ok (.aload_n 0, 1) := dk_42 (dk_at dksX0_worstFrom_4 23 rfl rfl)
theorem dX0_worstFrom_119 : decode cX0_worstFrom 119 = .ok (.getfield 127, 3) := dk_180 0 127 (dk_at dksX0_worstFrom_5 0 rfl rfl)
theorem dX0_worstFrom_122 : decode cX0_worstFrom 122 = .ok (.iload 6, 2) := dk_21 6 (dk_at dksX0_worstFrom_5 3 rfl rfl)
theorem dX0_worstFrom_124 : decode cX0_worstFrom 124 = .ok (.baload, 1) := dk_51 (dk_at dksX0_worstFrom_5 5 rfl rfl)
theorem dX0_worstFrom_125 : decode cX0_worstFrom 125 = .ok (.invokestatic 9, 3) := dk_184 0 9 (dk_at dksX0_worstFrom_5 6 rfl rfl)
theorem dX0_worstFrom_128 : decode cX0_worstFrom 128 = .ok (.istore 4, 2) := dk_54 4 (dk_at dksX0_worstFrom_5 9 rfl rfl)
theorem dX0_worstFrom_130 : decode cX0_worstFrom 130 = .ok (.iinc 5 1, 3) := dk_132 5 1 (dk_at dksX0_worstFrom_5 11 rfl rfl)
theorem dX0_worstFrom_133 : decode cX0_worstFrom 133 = .ok (.goto (-92), 3) := dk_167 255 164 (dk_at dksX0_worstFrom_5 14 rfl rfl)
theorem dX0_worstFrom_136 : decode cX0_worstFrom 136 = .ok (.iload 4, 2) := dk_21 4 (dk_at dksX0_worstFrom_5 17 rfl rfl)
theorem dX0_worstFrom_138 : decode cX0_worstFrom 138 = .ok (.ireturn, 1) := dk_172 (dk_at dksX0_worstFrom_5 19 rfl rfl)
abbrev cX0_drift : ByteArray := prog_1_method_64_code
def yX0_drift : MethodName := ⟨RX0, "drift", "(III)I"⟩
def dkwX0_drift_9 : List UInt8 := [180, 0, 22, 51, 84, 132, 7, 1, 167, 255, 96, 29, 154, 0, 8, 21, 5, 167, 0, 5, 21, 6, 172]
abbrev dktX0_drift_9 : List UInt8 := dkwX0_drift_9 ++ []
def dkwX0_drift_8 : List UInt8 := [21, 9, 182, 0, 216, 153, 0, 9, 21, 9, 145, 167, 0, 15, 42, 180, 0, 114, 180, 0, 207, 42]
abbrev dktX0_drift_8 : List UInt8 := dkwX0_drift_8 ++ dktX0_drift_9
def dkwX0_drift_7 : List UInt8 := [4, 167, 0, 4, 3, 96, 54, 6, 42, 180, 0, 114, 180, 0, 207, 42, 180, 0, 22, 42, 180, 0, 114]
abbrev dktX0_drift_7 : List UInt8 := dkwX0_drift_7 ++ dktX0_drift_8
def dkwX0_drift_6 : List UInt8 := [112, 96, 54, 9, 132, 5, 1, 21, 6, 42, 180, 0, 114, 180, 0, 70, 42, 180, 0, 22, 51, 154, 0, 7]
abbrev dktX0_drift_6 : List UInt8 := dkwX0_drift_6 ++ dktX0_drift_7
def dkwX0_drift_5 : List UInt8 := [16, 252, 159, 0, 96, 16, 10, 21, 8, 16, 32, 108, 16, 10, 112, 104, 21, 8, 17, 1, 64, 108, 16, 8]
abbrev dktX0_drift_5 : List UInt8 := dkwX0_drift_5 ++ dktX0_drift_6
def dkwX0_drift_4 : List UInt8 := [42, 180, 0, 110, 180, 0, 187, 112, 21, 8, 7, 108, 16, 8, 112, 3, 182, 0, 66, 42, 180, 0, 22]
abbrev dktX0_drift_4 : List UInt8 := dkwX0_drift_4 ++ dktX0_drift_5
def dkwX0_drift_3 : List UInt8 := [17, 48, 57, 96, 54, 4, 21, 4, 16, 16, 124, 17, 127, 255, 126, 54, 8, 42, 42, 180, 0, 114, 21, 8]
abbrev dktX0_drift_3 : List UInt8 := dkwX0_drift_3 ++ dktX0_drift_4
def dkwX0_drift_2 : List UInt8 := [54, 4, 3, 54, 5, 3, 54, 6, 3, 54, 7, 21, 7, 28, 162, 0, 160, 21, 4, 19, 1, 52, 104]
abbrev dktX0_drift_2 : List UInt8 := dkwX0_drift_2 ++ dktX0_drift_3
def dkwX0_drift_1 : List UInt8 := [180, 0, 110, 180, 0, 187, 154, 0, 6, 16, 254, 172, 42, 180, 0, 114, 42, 180, 0, 110, 182, 0, 160, 27]
abbrev dktX0_drift_1 : List UInt8 := dkwX0_drift_1 ++ dktX0_drift_2
def dkwX0_drift_0 : List UInt8 := [28, 133, 10, 20, 1, 50, 184, 0, 139, 153, 0, 10, 29, 184, 0, 249, 154, 0, 5, 2, 172, 42]
abbrev dktX0_drift_0 : List UInt8 := dkwX0_drift_0 ++ dktX0_drift_1
theorem dksX0_drift_0 : cX0_drift.data.toList.drop 0 = dktX0_drift_0 := by decide +kernel
theorem dksX0_drift_1 : cX0_drift.data.toList.drop 22 = dktX0_drift_1 := dk_seg dksX0_drift_0 22 rfl rfl
theorem dksX0_drift_2 : cX0_drift.data.toList.drop 46 = dktX0_drift_2 := dk_seg dksX0_drift_1 24 rfl rfl
theorem dksX0_drift_3 : cX0_drift.data.toList.drop 69 = dktX0_drift_3 := dk_seg dksX0_drift_2 23 rfl rfl
theorem dksX0_drift_4 : cX0_drift.data.toList.drop 93 = dktX0_drift_4 := dk_seg dksX0_drift_3 24 rfl rfl
theorem dksX0_drift_5 : cX0_drift.data.toList.drop 116 = dktX0_drift_5 := dk_seg dksX0_drift_4 23 rfl rfl
theorem dksX0_drift_6 : cX0_drift.data.toList.drop 140 = dktX0_drift_6 := dk_seg dksX0_drift_5 24 rfl rfl
theorem dksX0_drift_7 : cX0_drift.data.toList.drop 164 = dktX0_drift_7 := dk_seg dksX0_drift_6 24 rfl rfl
theorem dksX0_drift_8 : cX0_drift.data.toList.drop 187 = dktX0_drift_8 := dk_seg dksX0_drift_7 23 rfl rfl
theorem dksX0_drift_9 : cX0_drift.data.toList.drop 209 = dktX0_drift_9 := dk_seg dksX0_drift_8 22 rfl rfl
theorem dX0_drift_0 : decode cX0_drift 0 = .ok (.iload_n 2, 1) := dk_28 (dk_at dksX0_drift_0 0 rfl rfl)
theorem dX0_drift_1 : decode cX0_drift 1 = .ok (.i2l, 1) := dk_133 (dk_at dksX0_drift_0 1 rfl rfl)
theorem dX0_drift_2 : decode cX0_drift 2 = .ok (.lconst 1, 1) := dk_10 (dk_at dksX0_drift_0 2 rfl rfl)
theorem dX0_drift_3 : decode cX0_drift 3 = .ok (.ldc2_w 306, 3) := dk_20 1 50 (dk_at dksX0_drift_0 3 rfl rfl)
theorem dX0_drift_6 : decode cX0_drift 6 = .ok (.invokestatic 139, 3) := dk_184 0 139 (dk_at dksX0_drift_0 6 rfl rfl)
theorem dX0_drift_9 : decode cX0_drift 9 = .ok (.ifCond .eq 10, 3) := dk_153 0 10 (dk_at dksX0_drift_0 9 rfl rfl)
theorem dX0_drift_12 : decode cX0_drift 12 = .ok (.iload_n 3, 1) := dk_29 (dk_at dksX0_drift_0 12 rfl rfl)
theorem dX0_drift_13 : decode cX0_drift 13 = .ok (.invokestatic 249, 3) := dk_184 0 249 (dk_at dksX0_drift_0 13 rfl rfl)
theorem dX0_drift_16 : decode cX0_drift 16 = .ok (.ifCond .ne 5, 3) := dk_154 0 5 (dk_at dksX0_drift_0 16 rfl rfl)
theorem dX0_drift_19 : decode cX0_drift 19 = .ok (.iconst (-1), 1) := dk_2 (dk_at dksX0_drift_0 19 rfl rfl)
theorem dX0_drift_20 : decode cX0_drift 20 = .ok (.ireturn, 1) := dk_172 (dk_at dksX0_drift_0 20 rfl rfl)
theorem dX0_drift_21 : decode cX0_drift 21 = .ok (.aload_n 0, 1) := dk_42 (dk_at dksX0_drift_0 21 rfl rfl)
theorem dX0_drift_22 : decode cX0_drift 22 = .ok (.getfield 110, 3) := dk_180 0 110 (dk_at dksX0_drift_1 0 rfl rfl)
theorem dX0_drift_25 : decode cX0_drift 25 = .ok (.getfield 187, 3) := dk_180 0 187 (dk_at dksX0_drift_1 3 rfl rfl)
theorem dX0_drift_28 : decode cX0_drift 28 = .ok (.ifCond .ne 6, 3) := dk_154 0 6 (dk_at dksX0_drift_1 6 rfl rfl)
theorem dX0_drift_31 : decode cX0_drift 31 = .ok (.bipush (-2), 2) := dk_16 254 (dk_at dksX0_drift_1 9 rfl rfl)
theorem dX0_drift_33 : decode cX0_drift 33 = .ok (.ireturn, 1) := dk_172 (dk_at dksX0_drift_1 11 rfl rfl)
theorem dX0_drift_34 : decode cX0_drift 34 = .ok (.aload_n 0, 1) := dk_42 (dk_at dksX0_drift_1 12 rfl rfl)
theorem dX0_drift_35 : decode cX0_drift 35 = .ok (.getfield 114, 3) := dk_180 0 114 (dk_at dksX0_drift_1 13 rfl rfl)
theorem dX0_drift_38 : decode cX0_drift 38 = .ok (.aload_n 0, 1) := dk_42 (dk_at dksX0_drift_1 16 rfl rfl)
theorem dX0_drift_39 : decode cX0_drift 39 = .ok (.getfield 110, 3) := dk_180 0 110 (dk_at dksX0_drift_1 17 rfl rfl)
theorem dX0_drift_42 : decode cX0_drift 42 = .ok (.invokevirtual 160, 3) := dk_182 0 160 (dk_at dksX0_drift_1 20 rfl rfl)
theorem dX0_drift_45 : decode cX0_drift 45 = .ok (.iload_n 1, 1) := dk_27 (dk_at dksX0_drift_1 23 rfl rfl)
theorem dX0_drift_46 : decode cX0_drift 46 = .ok (.istore 4, 2) := dk_54 4 (dk_at dksX0_drift_2 0 rfl rfl)
theorem dX0_drift_48 : decode cX0_drift 48 = .ok (.iconst 0, 1) := dk_3 (dk_at dksX0_drift_2 2 rfl rfl)
theorem dX0_drift_49 : decode cX0_drift 49 = .ok (.istore 5, 2) := dk_54 5 (dk_at dksX0_drift_2 3 rfl rfl)
theorem dX0_drift_51 : decode cX0_drift 51 = .ok (.iconst 0, 1) := dk_3 (dk_at dksX0_drift_2 5 rfl rfl)
theorem dX0_drift_52 : decode cX0_drift 52 = .ok (.istore 6, 2) := dk_54 6 (dk_at dksX0_drift_2 6 rfl rfl)
theorem dX0_drift_54 : decode cX0_drift 54 = .ok (.iconst 0, 1) := dk_3 (dk_at dksX0_drift_2 8 rfl rfl)
theorem dX0_drift_55 : decode cX0_drift 55 = .ok (.istore 7, 2) := dk_54 7 (dk_at dksX0_drift_2 9 rfl rfl)
theorem dX0_drift_57 : decode cX0_drift 57 = .ok (.iload 7, 2) := dk_21 7 (dk_at dksX0_drift_2 11 rfl rfl)
theorem dX0_drift_59 : decode cX0_drift 59 = .ok (.iload_n 2, 1) := dk_28 (dk_at dksX0_drift_2 13 rfl rfl)
theorem dX0_drift_60 : decode cX0_drift 60 = .ok (.if_icmp .ge 160, 3) := dk_162 0 160 (dk_at dksX0_drift_2 14 rfl rfl)
theorem dX0_drift_63 : decode cX0_drift 63 = .ok (.iload 4, 2) := dk_21 4 (dk_at dksX0_drift_2 17 rfl rfl)
theorem dX0_drift_65 : decode cX0_drift 65 = .ok (.ldc_w 308, 3) := dk_19 1 52 (dk_at dksX0_drift_2 19 rfl rfl)
theorem dX0_drift_68 : decode cX0_drift 68 = .ok (.imul, 1) := dk_104 (dk_at dksX0_drift_2 22 rfl rfl)
theorem dX0_drift_69 : decode cX0_drift 69 = .ok (.sipush 12345, 3) := dk_17 48 57 (dk_at dksX0_drift_3 0 rfl rfl)
theorem dX0_drift_72 : decode cX0_drift 72 = .ok (.iadd, 1) := dk_96 (dk_at dksX0_drift_3 3 rfl rfl)
theorem dX0_drift_73 : decode cX0_drift 73 = .ok (.istore 4, 2) := dk_54 4 (dk_at dksX0_drift_3 4 rfl rfl)
theorem dX0_drift_75 : decode cX0_drift 75 = .ok (.iload 4, 2) := dk_21 4 (dk_at dksX0_drift_3 6 rfl rfl)
theorem dX0_drift_77 : decode cX0_drift 77 = .ok (.bipush 16, 2) := dk_16 16 (dk_at dksX0_drift_3 8 rfl rfl)
theorem dX0_drift_79 : decode cX0_drift 79 = .ok (.iushr, 1) := dk_124 (dk_at dksX0_drift_3 10 rfl rfl)
theorem dX0_drift_80 : decode cX0_drift 80 = .ok (.sipush 32767, 3) := dk_17 127 255 (dk_at dksX0_drift_3 11 rfl rfl)
theorem dX0_drift_83 : decode cX0_drift 83 = .ok (.iand, 1) := dk_126 (dk_at dksX0_drift_3 14 rfl rfl)
theorem dX0_drift_84 : decode cX0_drift 84 = .ok (.istore 8, 2) := dk_54 8 (dk_at dksX0_drift_3 15 rfl rfl)
theorem dX0_drift_86 : decode cX0_drift 86 = .ok (.aload_n 0, 1) := dk_42 (dk_at dksX0_drift_3 17 rfl rfl)
theorem dX0_drift_87 : decode cX0_drift 87 = .ok (.aload_n 0, 1) := dk_42 (dk_at dksX0_drift_3 18 rfl rfl)
theorem dX0_drift_88 : decode cX0_drift 88 = .ok (.getfield 114, 3) := dk_180 0 114 (dk_at dksX0_drift_3 19 rfl rfl)
theorem dX0_drift_91 : decode cX0_drift 91 = .ok (.iload 8, 2) := dk_21 8 (dk_at dksX0_drift_3 22 rfl rfl)
theorem dX0_drift_93 : decode cX0_drift 93 = .ok (.aload_n 0, 1) := dk_42 (dk_at dksX0_drift_4 0 rfl rfl)
theorem dX0_drift_94 : decode cX0_drift 94 = .ok (.getfield 110, 3) := dk_180 0 110 (dk_at dksX0_drift_4 1 rfl rfl)
theorem dX0_drift_97 : decode cX0_drift 97 = .ok (.getfield 187, 3) := dk_180 0 187 (dk_at dksX0_drift_4 4 rfl rfl)
theorem dX0_drift_100 : decode cX0_drift 100 = .ok (.irem, 1) := dk_112 (dk_at dksX0_drift_4 7 rfl rfl)
theorem dX0_drift_101 : decode cX0_drift 101 = .ok (.iload 8, 2) := dk_21 8 (dk_at dksX0_drift_4 8 rfl rfl)
theorem dX0_drift_103 : decode cX0_drift 103 = .ok (.iconst 4, 1) := dk_7 (dk_at dksX0_drift_4 10 rfl rfl)
theorem dX0_drift_104 : decode cX0_drift 104 = .ok (.idiv, 1) := dk_108 (dk_at dksX0_drift_4 11 rfl rfl)
theorem dX0_drift_105 : decode cX0_drift 105 = .ok (.bipush 8, 2) := dk_16 8 (dk_at dksX0_drift_4 12 rfl rfl)
theorem dX0_drift_107 : decode cX0_drift 107 = .ok (.irem, 1) := dk_112 (dk_at dksX0_drift_4 14 rfl rfl)
theorem dX0_drift_108 : decode cX0_drift 108 = .ok (.iconst 0, 1) := dk_3 (dk_at dksX0_drift_4 15 rfl rfl)
theorem dX0_drift_109 : decode cX0_drift 109 = .ok (.invokevirtual 66, 3) := dk_182 0 66 (dk_at dksX0_drift_4 16 rfl rfl)
theorem dX0_drift_112 : decode cX0_drift 112 = .ok (.aload_n 0, 1) := dk_42 (dk_at dksX0_drift_4 19 rfl rfl)
theorem dX0_drift_113 : decode cX0_drift 113 = .ok (.getfield 22, 3) := dk_180 0 22 (dk_at dksX0_drift_4 20 rfl rfl)
theorem dX0_drift_116 : decode cX0_drift 116 = .ok (.bipush (-4), 2) := dk_16 252 (dk_at dksX0_drift_5 0 rfl rfl)
theorem dX0_drift_118 : decode cX0_drift 118 = .ok (.if_icmp .eq 96, 3) := dk_159 0 96 (dk_at dksX0_drift_5 2 rfl rfl)
theorem dX0_drift_121 : decode cX0_drift 121 = .ok (.bipush 10, 2) := dk_16 10 (dk_at dksX0_drift_5 5 rfl rfl)
theorem dX0_drift_123 : decode cX0_drift 123 = .ok (.iload 8, 2) := dk_21 8 (dk_at dksX0_drift_5 7 rfl rfl)
theorem dX0_drift_125 : decode cX0_drift 125 = .ok (.bipush 32, 2) := dk_16 32 (dk_at dksX0_drift_5 9 rfl rfl)
theorem dX0_drift_127 : decode cX0_drift 127 = .ok (.idiv, 1) := dk_108 (dk_at dksX0_drift_5 11 rfl rfl)
theorem dX0_drift_128 : decode cX0_drift 128 = .ok (.bipush 10, 2) := dk_16 10 (dk_at dksX0_drift_5 12 rfl rfl)
theorem dX0_drift_130 : decode cX0_drift 130 = .ok (.irem, 1) := dk_112 (dk_at dksX0_drift_5 14 rfl rfl)
theorem dX0_drift_131 : decode cX0_drift 131 = .ok (.imul, 1) := dk_104 (dk_at dksX0_drift_5 15 rfl rfl)
theorem dX0_drift_132 : decode cX0_drift 132 = .ok (.iload 8, 2) := dk_21 8 (dk_at dksX0_drift_5 16 rfl rfl)
theorem dX0_drift_134 : decode cX0_drift 134 = .ok (.sipush 320, 3) := dk_17 1 64 (dk_at dksX0_drift_5 18 rfl rfl)
theorem dX0_drift_137 : decode cX0_drift 137 = .ok (.idiv, 1) := dk_108 (dk_at dksX0_drift_5 21 rfl rfl)
theorem dX0_drift_138 : decode cX0_drift 138 = .ok (.bipush 8, 2) := dk_16 8 (dk_at dksX0_drift_5 22 rfl rfl)
theorem dX0_drift_140 : decode cX0_drift 140 = .ok (.irem, 1) := dk_112 (dk_at dksX0_drift_6 0 rfl rfl)
theorem dX0_drift_141 : decode cX0_drift 141 = .ok (.iadd, 1) := dk_96 (dk_at dksX0_drift_6 1 rfl rfl)
theorem dX0_drift_142 : decode cX0_drift 142 = .ok (.istore 9, 2) := dk_54 9 (dk_at dksX0_drift_6 2 rfl rfl)
theorem dX0_drift_144 : decode cX0_drift 144 = .ok (.iinc 5 1, 3) := dk_132 5 1 (dk_at dksX0_drift_6 4 rfl rfl)
theorem dX0_drift_147 : decode cX0_drift 147 = .ok (.iload 6, 2) := dk_21 6 (dk_at dksX0_drift_6 7 rfl rfl)
theorem dX0_drift_149 : decode cX0_drift 149 = .ok (.aload_n 0, 1) := dk_42 (dk_at dksX0_drift_6 9 rfl rfl)
theorem dX0_drift_150 : decode cX0_drift 150 = .ok (.getfield 114, 3) := dk_180 0 114 (dk_at dksX0_drift_6 10 rfl rfl)
theorem dX0_drift_153 : decode cX0_drift 153 = .ok (.getfield 70, 3) := dk_180 0 70 (dk_at dksX0_drift_6 13 rfl rfl)
theorem dX0_drift_156 : decode cX0_drift 156 = .ok (.aload_n 0, 1) := dk_42 (dk_at dksX0_drift_6 16 rfl rfl)
theorem dX0_drift_157 : decode cX0_drift 157 = .ok (.getfield 22, 3) := dk_180 0 22 (dk_at dksX0_drift_6 17 rfl rfl)
theorem dX0_drift_160 : decode cX0_drift 160 = .ok (.baload, 1) := dk_51 (dk_at dksX0_drift_6 20 rfl rfl)
theorem dX0_drift_161 : decode cX0_drift 161 = .ok (.ifCond .ne 7, 3) := dk_154 0 7 (dk_at dksX0_drift_6 21 rfl rfl)
theorem dX0_drift_164 : decode cX0_drift 164 = .ok (.iconst 1, 1) := dk_4 (dk_at dksX0_drift_7 0 rfl rfl)
theorem dX0_drift_165 : decode cX0_drift 165 = .ok (.goto 4, 3) := dk_167 0 4 (dk_at dksX0_drift_7 1 rfl rfl)
theorem dX0_drift_168 : decode cX0_drift 168 = .ok (.iconst 0, 1) := dk_3 (dk_at dksX0_drift_7 4 rfl rfl)
theorem dX0_drift_169 : decode cX0_drift 169 = .ok (.iadd, 1) := dk_96 (dk_at dksX0_drift_7 5 rfl rfl)
theorem dX0_drift_170 : decode cX0_drift 170 = .ok (.istore 6, 2) := dk_54 6 (dk_at dksX0_drift_7 6 rfl rfl)
theorem dX0_drift_172 : decode cX0_drift 172 = .ok (.aload_n 0, 1) := dk_42 (dk_at dksX0_drift_7 8 rfl rfl)
theorem dX0_drift_173 : decode cX0_drift 173 = .ok (.getfield 114, 3) := dk_180 0 114 (dk_at dksX0_drift_7 9 rfl rfl)
theorem dX0_drift_176 : decode cX0_drift 176 = .ok (.getfield 207, 3) := dk_180 0 207 (dk_at dksX0_drift_7 12 rfl rfl)
theorem dX0_drift_179 : decode cX0_drift 179 = .ok (.aload_n 0, 1) := dk_42 (dk_at dksX0_drift_7 15 rfl rfl)
theorem dX0_drift_180 : decode cX0_drift 180 = .ok (.getfield 22, 3) := dk_180 0 22 (dk_at dksX0_drift_7 16 rfl rfl)
theorem dX0_drift_183 : decode cX0_drift 183 = .ok (.aload_n 0, 1) := dk_42 (dk_at dksX0_drift_7 19 rfl rfl)
theorem dX0_drift_184 : decode cX0_drift 184 = .ok (.getfield 114, 3) := dk_180 0 114 (dk_at dksX0_drift_7 20 rfl rfl)
theorem dX0_drift_187 : decode cX0_drift 187 = .ok (.iload 9, 2) := dk_21 9 (dk_at dksX0_drift_8 0 rfl rfl)
theorem dX0_drift_189 : decode cX0_drift 189 = .ok (.invokevirtual 216, 3) := dk_182 0 216 (dk_at dksX0_drift_8 2 rfl rfl)
theorem dX0_drift_192 : decode cX0_drift 192 = .ok (.ifCond .eq 9, 3) := dk_153 0 9 (dk_at dksX0_drift_8 5 rfl rfl)
theorem dX0_drift_195 : decode cX0_drift 195 = .ok (.iload 9, 2) := dk_21 9 (dk_at dksX0_drift_8 8 rfl rfl)
theorem dX0_drift_197 : decode cX0_drift 197 = .ok (.i2b, 1) := dk_145 (dk_at dksX0_drift_8 10 rfl rfl)
theorem dX0_drift_198 : decode cX0_drift 198 = .ok (.goto 15, 3) := dk_167 0 15 (dk_at dksX0_drift_8 11 rfl rfl)
theorem dX0_drift_201 : decode cX0_drift 201 = .ok (.aload_n 0, 1) := dk_42 (dk_at dksX0_drift_8 14 rfl rfl)
theorem dX0_drift_202 : decode cX0_drift 202 = .ok (.getfield 114, 3) := dk_180 0 114 (dk_at dksX0_drift_8 15 rfl rfl)
theorem dX0_drift_205 : decode cX0_drift 205 = .ok (.getfield 207, 3) := dk_180 0 207 (dk_at dksX0_drift_8 18 rfl rfl)
theorem dX0_drift_208 : decode cX0_drift 208 = .ok (.aload_n 0, 1) := dk_42 (dk_at dksX0_drift_8 21 rfl rfl)
theorem dX0_drift_209 : decode cX0_drift 209 = .ok (.getfield 22, 3) := dk_180 0 22 (dk_at dksX0_drift_9 0 rfl rfl)
theorem dX0_drift_212 : decode cX0_drift 212 = .ok (.baload, 1) := dk_51 (dk_at dksX0_drift_9 3 rfl rfl)
theorem dX0_drift_213 : decode cX0_drift 213 = .ok (.bastore, 1) := dk_84 (dk_at dksX0_drift_9 4 rfl rfl)
theorem dX0_drift_214 : decode cX0_drift 214 = .ok (.iinc 7 1, 3) := dk_132 7 1 (dk_at dksX0_drift_9 5 rfl rfl)
theorem dX0_drift_217 : decode cX0_drift 217 = .ok (.goto (-160), 3) := dk_167 255 96 (dk_at dksX0_drift_9 8 rfl rfl)
theorem dX0_drift_220 : decode cX0_drift 220 = .ok (.iload_n 3, 1) := dk_29 (dk_at dksX0_drift_9 11 rfl rfl)
theorem dX0_drift_221 : decode cX0_drift 221 = .ok (.ifCond .ne 8, 3) := dk_154 0 8 (dk_at dksX0_drift_9 12 rfl rfl)
theorem dX0_drift_224 : decode cX0_drift 224 = .ok (.iload 5, 2) := dk_21 5 (dk_at dksX0_drift_9 15 rfl rfl)
theorem dX0_drift_226 : decode cX0_drift 226 = .ok (.goto 5, 3) := dk_167 0 5 (dk_at dksX0_drift_9 17 rfl rfl)
theorem dX0_drift_229 : decode cX0_drift 229 = .ok (.iload 6, 2) := dk_21 6 (dk_at dksX0_drift_9 20 rfl rfl)
theorem dX0_drift_231 : decode cX0_drift 231 = .ok (.ireturn, 1) := dk_172 (dk_at dksX0_drift_9 22 rfl rfl)
abbrev cX0_keep : ByteArray := prog_1_method_65_code
def yX0_keep : MethodName := ⟨RX0, "keep", "(I)I"⟩
def dkwX0_keep_2 : List UInt8 := [28, 172]
abbrev dktX0_keep_2 : List UInt8 := dkwX0_keep_2 ++ []
def dkwX0_keep_1 : List UInt8 := [180, 0, 117, 27, 50, 42, 180, 0, 110, 182, 0, 160, 42, 89, 180, 0, 167, 4, 27, 120, 128, 181, 0, 167]
abbrev dktX0_keep_1 : List UInt8 := dkwX0_keep_1 ++ dktX0_keep_2
def dkwX0_keep_0 : List UInt8 := [27, 133, 9, 10, 184, 0, 139, 154, 0, 5, 2, 172, 42, 180, 0, 167, 27, 122, 4, 126, 61, 42]
abbrev dktX0_keep_0 : List UInt8 := dkwX0_keep_0 ++ dktX0_keep_1
theorem dksX0_keep_0 : cX0_keep.data.toList.drop 0 = dktX0_keep_0 := by decide +kernel
theorem dksX0_keep_1 : cX0_keep.data.toList.drop 22 = dktX0_keep_1 := dk_seg dksX0_keep_0 22 rfl rfl
theorem dksX0_keep_2 : cX0_keep.data.toList.drop 46 = dktX0_keep_2 := dk_seg dksX0_keep_1 24 rfl rfl
theorem dX0_keep_0 : decode cX0_keep 0 = .ok (.iload_n 1, 1) := dk_27 (dk_at dksX0_keep_0 0 rfl rfl)
theorem dX0_keep_1 : decode cX0_keep 1 = .ok (.i2l, 1) := dk_133 (dk_at dksX0_keep_0 1 rfl rfl)
theorem dX0_keep_2 : decode cX0_keep 2 = .ok (.lconst 0, 1) := dk_9 (dk_at dksX0_keep_0 2 rfl rfl)
theorem dX0_keep_3 : decode cX0_keep 3 = .ok (.lconst 1, 1) := dk_10 (dk_at dksX0_keep_0 3 rfl rfl)
theorem dX0_keep_4 : decode cX0_keep 4 = .ok (.invokestatic 139, 3) := dk_184 0 139 (dk_at dksX0_keep_0 4 rfl rfl)
theorem dX0_keep_7 : decode cX0_keep 7 = .ok (.ifCond .ne 5, 3) := dk_154 0 5 (dk_at dksX0_keep_0 7 rfl rfl)
theorem dX0_keep_10 : decode cX0_keep 10 = .ok (.iconst (-1), 1) := dk_2 (dk_at dksX0_keep_0 10 rfl rfl)
theorem dX0_keep_11 : decode cX0_keep 11 = .ok (.ireturn, 1) := dk_172 (dk_at dksX0_keep_0 11 rfl rfl)
theorem dX0_keep_12 : decode cX0_keep 12 = .ok (.aload_n 0, 1) := dk_42 (dk_at dksX0_keep_0 12 rfl rfl)
theorem dX0_keep_13 : decode cX0_keep 13 = .ok (.getfield 167, 3) := dk_180 0 167 (dk_at dksX0_keep_0 13 rfl rfl)
theorem dX0_keep_16 : decode cX0_keep 16 = .ok (.iload_n 1, 1) := dk_27 (dk_at dksX0_keep_0 16 rfl rfl)
theorem dX0_keep_17 : decode cX0_keep 17 = .ok (.ishr, 1) := dk_122 (dk_at dksX0_keep_0 17 rfl rfl)
theorem dX0_keep_18 : decode cX0_keep 18 = .ok (.iconst 1, 1) := dk_4 (dk_at dksX0_keep_0 18 rfl rfl)
theorem dX0_keep_19 : decode cX0_keep 19 = .ok (.iand, 1) := dk_126 (dk_at dksX0_keep_0 19 rfl rfl)
theorem dX0_keep_20 : decode cX0_keep 20 = .ok (.istore_n 2, 1) := dk_61 (dk_at dksX0_keep_0 20 rfl rfl)
theorem dX0_keep_21 : decode cX0_keep 21 = .ok (.aload_n 0, 1) := dk_42 (dk_at dksX0_keep_0 21 rfl rfl)
theorem dX0_keep_22 : decode cX0_keep 22 = .ok (.getfield 117, 3) := dk_180 0 117 (dk_at dksX0_keep_1 0 rfl rfl)
theorem dX0_keep_25 : decode cX0_keep 25 = .ok (.iload_n 1, 1) := dk_27 (dk_at dksX0_keep_1 3 rfl rfl)
theorem dX0_keep_26 : decode cX0_keep 26 = .ok (.aaload, 1) := dk_50 (dk_at dksX0_keep_1 4 rfl rfl)
theorem dX0_keep_27 : decode cX0_keep 27 = .ok (.aload_n 0, 1) := dk_42 (dk_at dksX0_keep_1 5 rfl rfl)
theorem dX0_keep_28 : decode cX0_keep 28 = .ok (.getfield 110, 3) := dk_180 0 110 (dk_at dksX0_keep_1 6 rfl rfl)
theorem dX0_keep_31 : decode cX0_keep 31 = .ok (.invokevirtual 160, 3) := dk_182 0 160 (dk_at dksX0_keep_1 9 rfl rfl)
theorem dX0_keep_34 : decode cX0_keep 34 = .ok (.aload_n 0, 1) := dk_42 (dk_at dksX0_keep_1 12 rfl rfl)
theorem dX0_keep_35 : decode cX0_keep 35 = .ok (.dup, 1) := dk_89 (dk_at dksX0_keep_1 13 rfl rfl)
theorem dX0_keep_36 : decode cX0_keep 36 = .ok (.getfield 167, 3) := dk_180 0 167 (dk_at dksX0_keep_1 14 rfl rfl)
theorem dX0_keep_39 : decode cX0_keep 39 = .ok (.iconst 1, 1) := dk_4 (dk_at dksX0_keep_1 17 rfl rfl)
theorem dX0_keep_40 : decode cX0_keep 40 = .ok (.iload_n 1, 1) := dk_27 (dk_at dksX0_keep_1 18 rfl rfl)
theorem dX0_keep_41 : decode cX0_keep 41 = .ok (.ishl, 1) := dk_120 (dk_at dksX0_keep_1 19 rfl rfl)
theorem dX0_keep_42 : decode cX0_keep 42 = .ok (.ior, 1) := dk_128 (dk_at dksX0_keep_1 20 rfl rfl)
theorem dX0_keep_43 : decode cX0_keep 43 = .ok (.putfield 167, 3) := dk_181 0 167 (dk_at dksX0_keep_1 21 rfl rfl)
theorem dX0_keep_46 : decode cX0_keep 46 = .ok (.iload_n 2, 1) := dk_28 (dk_at dksX0_keep_2 0 rfl rfl)
theorem dX0_keep_47 : decode cX0_keep 47 = .ok (.ireturn, 1) := dk_172 (dk_at dksX0_keep_2 1 rfl rfl)
abbrev cX0_back : ByteArray := prog_1_method_66_code
def yX0_back : MethodName := ⟨RX0, "back", "(I)I"⟩
def dkwX0_back_2 : List UInt8 := [184, 0, 88, 172]
abbrev dktX0_back_2 : List UInt8 := dkwX0_back_2 ++ []
def dkwX0_back_1 : List UInt8 := [16, 254, 172, 42, 180, 0, 110, 42, 180, 0, 117, 27, 50, 182, 0, 160, 42, 42, 180, 0, 110, 182, 0, 199]
abbrev dktX0_back_1 : List UInt8 := dkwX0_back_1 ++ dktX0_back_2
def dkwX0_back_0 : List UInt8 := [27, 133, 9, 10, 184, 0, 139, 154, 0, 5, 2, 172, 42, 180, 0, 167, 27, 184, 0, 56, 154, 0, 6]
abbrev dktX0_back_0 : List UInt8 := dkwX0_back_0 ++ dktX0_back_1
theorem dksX0_back_0 : cX0_back.data.toList.drop 0 = dktX0_back_0 := by decide +kernel
theorem dksX0_back_1 : cX0_back.data.toList.drop 23 = dktX0_back_1 := dk_seg dksX0_back_0 23 rfl rfl
theorem dksX0_back_2 : cX0_back.data.toList.drop 47 = dktX0_back_2 := dk_seg dksX0_back_1 24 rfl rfl
theorem dX0_back_0 : decode cX0_back 0 = .ok (.iload_n 1, 1) := dk_27 (dk_at dksX0_back_0 0 rfl rfl)
theorem dX0_back_1 : decode cX0_back 1 = .ok (.i2l, 1) := dk_133 (dk_at dksX0_back_0 1 rfl rfl)
theorem dX0_back_2 : decode cX0_back 2 = .ok (.lconst 0, 1) := dk_9 (dk_at dksX0_back_0 2 rfl rfl)
theorem dX0_back_3 : decode cX0_back 3 = .ok (.lconst 1, 1) := dk_10 (dk_at dksX0_back_0 3 rfl rfl)
theorem dX0_back_4 : decode cX0_back 4 = .ok (.invokestatic 139, 3) := dk_184 0 139 (dk_at dksX0_back_0 4 rfl rfl)
theorem dX0_back_7 : decode cX0_back 7 = .ok (.ifCond .ne 5, 3) := dk_154 0 5 (dk_at dksX0_back_0 7 rfl rfl)
theorem dX0_back_10 : decode cX0_back 10 = .ok (.iconst (-1), 1) := dk_2 (dk_at dksX0_back_0 10 rfl rfl)
theorem dX0_back_11 : decode cX0_back 11 = .ok (.ireturn, 1) := dk_172 (dk_at dksX0_back_0 11 rfl rfl)
theorem dX0_back_12 : decode cX0_back 12 = .ok (.aload_n 0, 1) := dk_42 (dk_at dksX0_back_0 12 rfl rfl)
theorem dX0_back_13 : decode cX0_back 13 = .ok (.getfield 167, 3) := dk_180 0 167 (dk_at dksX0_back_0 13 rfl rfl)
theorem dX0_back_16 : decode cX0_back 16 = .ok (.iload_n 1, 1) := dk_27 (dk_at dksX0_back_0 16 rfl rfl)
theorem dX0_back_17 : decode cX0_back 17 = .ok (.invokestatic 56, 3) := dk_184 0 56 (dk_at dksX0_back_0 17 rfl rfl)
theorem dX0_back_20 : decode cX0_back 20 = .ok (.ifCond .ne 6, 3) := dk_154 0 6 (dk_at dksX0_back_0 20 rfl rfl)
theorem dX0_back_23 : decode cX0_back 23 = .ok (.bipush (-2), 2) := dk_16 254 (dk_at dksX0_back_1 0 rfl rfl)
theorem dX0_back_25 : decode cX0_back 25 = .ok (.ireturn, 1) := dk_172 (dk_at dksX0_back_1 2 rfl rfl)
theorem dX0_back_26 : decode cX0_back 26 = .ok (.aload_n 0, 1) := dk_42 (dk_at dksX0_back_1 3 rfl rfl)
theorem dX0_back_27 : decode cX0_back 27 = .ok (.getfield 110, 3) := dk_180 0 110 (dk_at dksX0_back_1 4 rfl rfl)
theorem dX0_back_30 : decode cX0_back 30 = .ok (.aload_n 0, 1) := dk_42 (dk_at dksX0_back_1 7 rfl rfl)
theorem dX0_back_31 : decode cX0_back 31 = .ok (.getfield 117, 3) := dk_180 0 117 (dk_at dksX0_back_1 8 rfl rfl)
theorem dX0_back_34 : decode cX0_back 34 = .ok (.iload_n 1, 1) := dk_27 (dk_at dksX0_back_1 11 rfl rfl)
theorem dX0_back_35 : decode cX0_back 35 = .ok (.aaload, 1) := dk_50 (dk_at dksX0_back_1 12 rfl rfl)
theorem dX0_back_36 : decode cX0_back 36 = .ok (.invokevirtual 160, 3) := dk_182 0 160 (dk_at dksX0_back_1 13 rfl rfl)
theorem dX0_back_39 : decode cX0_back 39 = .ok (.aload_n 0, 1) := dk_42 (dk_at dksX0_back_1 16 rfl rfl)
theorem dX0_back_40 : decode cX0_back 40 = .ok (.aload_n 0, 1) := dk_42 (dk_at dksX0_back_1 17 rfl rfl)
theorem dX0_back_41 : decode cX0_back 41 = .ok (.getfield 110, 3) := dk_180 0 110 (dk_at dksX0_back_1 18 rfl rfl)
theorem dX0_back_44 : decode cX0_back 44 = .ok (.invokevirtual 199, 3) := dk_182 0 199 (dk_at dksX0_back_1 21 rfl rfl)
theorem dX0_back_47 : decode cX0_back 47 = .ok (.invokestatic 88, 3) := dk_184 0 88 (dk_at dksX0_back_2 0 rfl rfl)
theorem dX0_back_50 : decode cX0_back 50 = .ok (.ireturn, 1) := dk_172 (dk_at dksX0_back_2 3 rfl rfl)
abbrev cX0_sheet : ByteArray := prog_1_method_68_code
def yX0_sheet : MethodName := ⟨RX0, "sheet", "(III)I"⟩
def dkwX0_sheet_2 : List UInt8 := [181, 1, 56, 4, 172, 58, 4, 16, 242, 172]
abbrev dktX0_sheet_2 : List UInt8 := dkwX0_sheet_2 ++ []
def dkwX0_sheet_1 : List UInt8 := [154, 0, 9, 29, 188, 8, 167, 0, 17, 28, 4, 160, 0, 9, 29, 188, 9, 167, 0, 6, 29, 188, 10]
abbrev dktX0_sheet_1 : List UInt8 := dkwX0_sheet_1 ++ dktX0_sheet_2
def dkwX0_sheet_0 : List UInt8 := [27, 28, 184, 1, 53, 153, 0, 9, 29, 16, 40, 164, 0, 5, 2, 172, 42, 180, 0, 132, 27, 50, 28]
abbrev dktX0_sheet_0 : List UInt8 := dkwX0_sheet_0 ++ dktX0_sheet_1
theorem dksX0_sheet_0 : cX0_sheet.data.toList.drop 0 = dktX0_sheet_0 := by decide +kernel
theorem dksX0_sheet_1 : cX0_sheet.data.toList.drop 23 = dktX0_sheet_1 := dk_seg dksX0_sheet_0 23 rfl rfl
theorem dksX0_sheet_2 : cX0_sheet.data.toList.drop 46 = dktX0_sheet_2 := dk_seg dksX0_sheet_1 23 rfl rfl
theorem dX0_sheet_0 : decode cX0_sheet 0 = .ok (.iload_n 1, 1) := dk_27 (dk_at dksX0_sheet_0 0 rfl rfl)
theorem dX0_sheet_1 : decode cX0_sheet 1 = .ok (.iload_n 2, 1) := dk_28 (dk_at dksX0_sheet_0 1 rfl rfl)
theorem dX0_sheet_2 : decode cX0_sheet 2 = .ok (.invokestatic 309, 3) := dk_184 1 53 (dk_at dksX0_sheet_0 2 rfl rfl)
theorem dX0_sheet_5 : decode cX0_sheet 5 = .ok (.ifCond .eq 9, 3) := dk_153 0 9 (dk_at dksX0_sheet_0 5 rfl rfl)
theorem dX0_sheet_8 : decode cX0_sheet 8 = .ok (.iload_n 3, 1) := dk_29 (dk_at dksX0_sheet_0 8 rfl rfl)
theorem dX0_sheet_9 : decode cX0_sheet 9 = .ok (.bipush 40, 2) := dk_16 40 (dk_at dksX0_sheet_0 9 rfl rfl)
theorem dX0_sheet_11 : decode cX0_sheet 11 = .ok (.if_icmp .le 5, 3) := dk_164 0 5 (dk_at dksX0_sheet_0 11 rfl rfl)
theorem dX0_sheet_14 : decode cX0_sheet 14 = .ok (.iconst (-1), 1) := dk_2 (dk_at dksX0_sheet_0 14 rfl rfl)
theorem dX0_sheet_15 : decode cX0_sheet 15 = .ok (.ireturn, 1) := dk_172 (dk_at dksX0_sheet_0 15 rfl rfl)
theorem dX0_sheet_16 : decode cX0_sheet 16 = .ok (.aload_n 0, 1) := dk_42 (dk_at dksX0_sheet_0 16 rfl rfl)
theorem dX0_sheet_17 : decode cX0_sheet 17 = .ok (.getfield 132, 3) := dk_180 0 132 (dk_at dksX0_sheet_0 17 rfl rfl)
theorem dX0_sheet_20 : decode cX0_sheet 20 = .ok (.iload_n 1, 1) := dk_27 (dk_at dksX0_sheet_0 20 rfl rfl)
theorem dX0_sheet_21 : decode cX0_sheet 21 = .ok (.aaload, 1) := dk_50 (dk_at dksX0_sheet_0 21 rfl rfl)
theorem dX0_sheet_22 : decode cX0_sheet 22 = .ok (.iload_n 2, 1) := dk_28 (dk_at dksX0_sheet_0 22 rfl rfl)
theorem dX0_sheet_23 : decode cX0_sheet 23 = .ok (.ifCond .ne 9, 3) := dk_154 0 9 (dk_at dksX0_sheet_1 0 rfl rfl)
theorem dX0_sheet_26 : decode cX0_sheet 26 = .ok (.iload_n 3, 1) := dk_29 (dk_at dksX0_sheet_1 3 rfl rfl)
theorem dX0_sheet_27 : decode cX0_sheet 27 = .ok (.newarray .byte, 2) := dk_188_8 (dk_at dksX0_sheet_1 4 rfl rfl)
theorem dX0_sheet_29 : decode cX0_sheet 29 = .ok (.goto 17, 3) := dk_167 0 17 (dk_at dksX0_sheet_1 6 rfl rfl)
theorem dX0_sheet_32 : decode cX0_sheet 32 = .ok (.iload_n 2, 1) := dk_28 (dk_at dksX0_sheet_1 9 rfl rfl)
theorem dX0_sheet_33 : decode cX0_sheet 33 = .ok (.iconst 1, 1) := dk_4 (dk_at dksX0_sheet_1 10 rfl rfl)
theorem dX0_sheet_34 : decode cX0_sheet 34 = .ok (.if_icmp .ne 9, 3) := dk_160 0 9 (dk_at dksX0_sheet_1 11 rfl rfl)
theorem dX0_sheet_37 : decode cX0_sheet 37 = .ok (.iload_n 3, 1) := dk_29 (dk_at dksX0_sheet_1 14 rfl rfl)
theorem dX0_sheet_38 : decode cX0_sheet 38 = .ok (.newarray .short, 2) := dk_188_9 (dk_at dksX0_sheet_1 15 rfl rfl)
theorem dX0_sheet_40 : decode cX0_sheet 40 = .ok (.goto 6, 3) := dk_167 0 6 (dk_at dksX0_sheet_1 17 rfl rfl)
theorem dX0_sheet_43 : decode cX0_sheet 43 = .ok (.iload_n 3, 1) := dk_29 (dk_at dksX0_sheet_1 20 rfl rfl)
theorem dX0_sheet_44 : decode cX0_sheet 44 = .ok (.newarray .int, 2) := dk_188_10 (dk_at dksX0_sheet_1 21 rfl rfl)
theorem dX0_sheet_46 : decode cX0_sheet 46 = .ok (.putfield 312, 3) := dk_181 1 56 (dk_at dksX0_sheet_2 0 rfl rfl)
theorem dX0_sheet_49 : decode cX0_sheet 49 = .ok (.iconst 1, 1) := dk_4 (dk_at dksX0_sheet_2 3 rfl rfl)
theorem dX0_sheet_50 : decode cX0_sheet 50 = .ok (.ireturn, 1) := dk_172 (dk_at dksX0_sheet_2 4 rfl rfl)
theorem dX0_sheet_51 : decode cX0_sheet 51 = .ok (.astore 4, 2) := dk_58 4 (dk_at dksX0_sheet_2 5 rfl rfl)
theorem dX0_sheet_53 : decode cX0_sheet 53 = .ok (.bipush (-14), 2) := dk_16 242 (dk_at dksX0_sheet_2 7 rfl rfl)
theorem dX0_sheet_55 : decode cX0_sheet 55 = .ok (.ireturn, 1) := dk_172 (dk_at dksX0_sheet_2 9 rfl rfl)
abbrev cX0_isSheet : ByteArray := prog_1_method_67_code
def yX0_isSheet : MethodName := ⟨RX0, "isSheet", "(II)Z"⟩
def dkwX0_isSheet_1 : List UInt8 := [4, 167, 0, 4, 3, 172]
abbrev dktX0_isSheet_1 : List UInt8 := dkwX0_isSheet_1 ++ []
def dkwX0_isSheet_0 : List UInt8 := [26, 133, 9, 20, 0, 182, 184, 0, 139, 153, 0, 19, 27, 133, 9, 20, 0, 205, 184, 0, 139, 153, 0, 7]
abbrev dktX0_isSheet_0 : List UInt8 := dkwX0_isSheet_0 ++ dktX0_isSheet_1
theorem dksX0_isSheet_0 : cX0_isSheet.data.toList.drop 0 = dktX0_isSheet_0 := by decide +kernel
theorem dksX0_isSheet_1 : cX0_isSheet.data.toList.drop 24 = dktX0_isSheet_1 := dk_seg dksX0_isSheet_0 24 rfl rfl
theorem dX0_isSheet_0 : decode cX0_isSheet 0 = .ok (.iload_n 0, 1) := dk_26 (dk_at dksX0_isSheet_0 0 rfl rfl)
theorem dX0_isSheet_1 : decode cX0_isSheet 1 = .ok (.i2l, 1) := dk_133 (dk_at dksX0_isSheet_0 1 rfl rfl)
theorem dX0_isSheet_2 : decode cX0_isSheet 2 = .ok (.lconst 0, 1) := dk_9 (dk_at dksX0_isSheet_0 2 rfl rfl)
theorem dX0_isSheet_3 : decode cX0_isSheet 3 = .ok (.ldc2_w 182, 3) := dk_20 0 182 (dk_at dksX0_isSheet_0 3 rfl rfl)
theorem dX0_isSheet_6 : decode cX0_isSheet 6 = .ok (.invokestatic 139, 3) := dk_184 0 139 (dk_at dksX0_isSheet_0 6 rfl rfl)
theorem dX0_isSheet_9 : decode cX0_isSheet 9 = .ok (.ifCond .eq 19, 3) := dk_153 0 19 (dk_at dksX0_isSheet_0 9 rfl rfl)
theorem dX0_isSheet_12 : decode cX0_isSheet 12 = .ok (.iload_n 1, 1) := dk_27 (dk_at dksX0_isSheet_0 12 rfl rfl)
theorem dX0_isSheet_13 : decode cX0_isSheet 13 = .ok (.i2l, 1) := dk_133 (dk_at dksX0_isSheet_0 13 rfl rfl)
theorem dX0_isSheet_14 : decode cX0_isSheet 14 = .ok (.lconst 0, 1) := dk_9 (dk_at dksX0_isSheet_0 14 rfl rfl)
theorem dX0_isSheet_15 : decode cX0_isSheet 15 = .ok (.ldc2_w 205, 3) := dk_20 0 205 (dk_at dksX0_isSheet_0 15 rfl rfl)
theorem dX0_isSheet_18 : decode cX0_isSheet 18 = .ok (.invokestatic 139, 3) := dk_184 0 139 (dk_at dksX0_isSheet_0 18 rfl rfl)
theorem dX0_isSheet_21 : decode cX0_isSheet 21 = .ok (.ifCond .eq 7, 3) := dk_153 0 7 (dk_at dksX0_isSheet_0 21 rfl rfl)
theorem dX0_isSheet_24 : decode cX0_isSheet 24 = .ok (.iconst 1, 1) := dk_4 (dk_at dksX0_isSheet_1 0 rfl rfl)
theorem dX0_isSheet_25 : decode cX0_isSheet 25 = .ok (.goto 4, 3) := dk_167 0 4 (dk_at dksX0_isSheet_1 1 rfl rfl)
theorem dX0_isSheet_28 : decode cX0_isSheet 28 = .ok (.iconst 0, 1) := dk_3 (dk_at dksX0_isSheet_1 4 rfl rfl)
theorem dX0_isSheet_29 : decode cX0_isSheet 29 = .ok (.ireturn, 1) := dk_172 (dk_at dksX0_isSheet_1 5 rfl rfl)
abbrev cX0_write : ByteArray := prog_1_method_69_code
def yX0_write : MethodName := ⟨RX0, "write", "(III)I"⟩
def dkwX0_write_3 : List UInt8 := [29, 79, 4, 172, 58, 5, 16, 245, 172, 58, 5, 16, 244, 172]
abbrev dktX0_write_3 : List UInt8 := dkwX0_write_3 ++ []
def dkwX0_write_2 : List UInt8 := [193, 1, 63, 153, 0, 15, 25, 4, 192, 1, 63, 28, 29, 147, 86, 167, 0, 11, 25, 4, 192, 1, 65, 28]
abbrev dktX0_write_2 : List UInt8 := dkwX0_write_2 ++ dktX0_write_3
def dkwX0_write_1 : List UInt8 := [58, 4, 25, 4, 193, 1, 62, 153, 0, 15, 25, 4, 192, 1, 62, 28, 29, 145, 84, 167, 0, 31, 25, 4]
abbrev dktX0_write_1 : List UInt8 := dkwX0_write_1 ++ dktX0_write_2
def dkwX0_write_0 : List UInt8 := [27, 133, 9, 20, 0, 182, 184, 0, 139, 154, 0, 5, 2, 172, 42, 180, 0, 132, 27, 50, 180, 1, 56]
abbrev dktX0_write_0 : List UInt8 := dkwX0_write_0 ++ dktX0_write_1
theorem dksX0_write_0 : cX0_write.data.toList.drop 0 = dktX0_write_0 := by decide +kernel
theorem dksX0_write_1 : cX0_write.data.toList.drop 23 = dktX0_write_1 := dk_seg dksX0_write_0 23 rfl rfl
theorem dksX0_write_2 : cX0_write.data.toList.drop 47 = dktX0_write_2 := dk_seg dksX0_write_1 24 rfl rfl
theorem dksX0_write_3 : cX0_write.data.toList.drop 71 = dktX0_write_3 := dk_seg dksX0_write_2 24 rfl rfl
theorem dX0_write_0 : decode cX0_write 0 = .ok (.iload_n 1, 1) := dk_27 (dk_at dksX0_write_0 0 rfl rfl)
theorem dX0_write_1 : decode cX0_write 1 = .ok (.i2l, 1) := dk_133 (dk_at dksX0_write_0 1 rfl rfl)
theorem dX0_write_2 : decode cX0_write 2 = .ok (.lconst 0, 1) := dk_9 (dk_at dksX0_write_0 2 rfl rfl)
theorem dX0_write_3 : decode cX0_write 3 = .ok (.ldc2_w 182, 3) := dk_20 0 182 (dk_at dksX0_write_0 3 rfl rfl)
theorem dX0_write_6 : decode cX0_write 6 = .ok (.invokestatic 139, 3) := dk_184 0 139 (dk_at dksX0_write_0 6 rfl rfl)
theorem dX0_write_9 : decode cX0_write 9 = .ok (.ifCond .ne 5, 3) := dk_154 0 5 (dk_at dksX0_write_0 9 rfl rfl)
theorem dX0_write_12 : decode cX0_write 12 = .ok (.iconst (-1), 1) := dk_2 (dk_at dksX0_write_0 12 rfl rfl)
theorem dX0_write_13 : decode cX0_write 13 = .ok (.ireturn, 1) := dk_172 (dk_at dksX0_write_0 13 rfl rfl)
theorem dX0_write_14 : decode cX0_write 14 = .ok (.aload_n 0, 1) := dk_42 (dk_at dksX0_write_0 14 rfl rfl)
theorem dX0_write_15 : decode cX0_write 15 = .ok (.getfield 132, 3) := dk_180 0 132 (dk_at dksX0_write_0 15 rfl rfl)
theorem dX0_write_18 : decode cX0_write 18 = .ok (.iload_n 1, 1) := dk_27 (dk_at dksX0_write_0 18 rfl rfl)
theorem dX0_write_19 : decode cX0_write 19 = .ok (.aaload, 1) := dk_50 (dk_at dksX0_write_0 19 rfl rfl)
theorem dX0_write_20 : decode cX0_write 20 = .ok (.getfield 312, 3) := dk_180 1 56 (dk_at dksX0_write_0 20 rfl rfl)
theorem dX0_write_23 : decode cX0_write 23 = .ok (.astore 4, 2) := dk_58 4 (dk_at dksX0_write_1 0 rfl rfl)
theorem dX0_write_25 : decode cX0_write 25 = .ok (.aload 4, 2) := dk_25 4 (dk_at dksX0_write_1 2 rfl rfl)
theorem dX0_write_27 : decode cX0_write 27 = .ok (.instanceof 318, 3) := dk_193 1 62 (dk_at dksX0_write_1 4 rfl rfl)
theorem dX0_write_30 : decode cX0_write 30 = .ok (.ifCond .eq 15, 3) := dk_153 0 15 (dk_at dksX0_write_1 7 rfl rfl)
theorem dX0_write_33 : decode cX0_write 33 = .ok (.aload 4, 2) := dk_25 4 (dk_at dksX0_write_1 10 rfl rfl)
theorem dX0_write_35 : decode cX0_write 35 = .ok (.checkcast 318, 3) := dk_192 1 62 (dk_at dksX0_write_1 12 rfl rfl)
theorem dX0_write_38 : decode cX0_write 38 = .ok (.iload_n 2, 1) := dk_28 (dk_at dksX0_write_1 15 rfl rfl)
theorem dX0_write_39 : decode cX0_write 39 = .ok (.iload_n 3, 1) := dk_29 (dk_at dksX0_write_1 16 rfl rfl)
theorem dX0_write_40 : decode cX0_write 40 = .ok (.i2b, 1) := dk_145 (dk_at dksX0_write_1 17 rfl rfl)
theorem dX0_write_41 : decode cX0_write 41 = .ok (.bastore, 1) := dk_84 (dk_at dksX0_write_1 18 rfl rfl)
theorem dX0_write_42 : decode cX0_write 42 = .ok (.goto 31, 3) := dk_167 0 31 (dk_at dksX0_write_1 19 rfl rfl)
theorem dX0_write_45 : decode cX0_write 45 = .ok (.aload 4, 2) := dk_25 4 (dk_at dksX0_write_1 22 rfl rfl)
theorem dX0_write_47 : decode cX0_write 47 = .ok (.instanceof 319, 3) := dk_193 1 63 (dk_at dksX0_write_2 0 rfl rfl)
theorem dX0_write_50 : decode cX0_write 50 = .ok (.ifCond .eq 15, 3) := dk_153 0 15 (dk_at dksX0_write_2 3 rfl rfl)
theorem dX0_write_53 : decode cX0_write 53 = .ok (.aload 4, 2) := dk_25 4 (dk_at dksX0_write_2 6 rfl rfl)
theorem dX0_write_55 : decode cX0_write 55 = .ok (.checkcast 319, 3) := dk_192 1 63 (dk_at dksX0_write_2 8 rfl rfl)
theorem dX0_write_58 : decode cX0_write 58 = .ok (.iload_n 2, 1) := dk_28 (dk_at dksX0_write_2 11 rfl rfl)
theorem dX0_write_59 : decode cX0_write 59 = .ok (.iload_n 3, 1) := dk_29 (dk_at dksX0_write_2 12 rfl rfl)
theorem dX0_write_60 : decode cX0_write 60 = .ok (.i2s, 1) := dk_147 (dk_at dksX0_write_2 13 rfl rfl)
theorem dX0_write_61 : decode cX0_write 61 = .ok (.sastore, 1) := dk_86 (dk_at dksX0_write_2 14 rfl rfl)
theorem dX0_write_62 : decode cX0_write 62 = .ok (.goto 11, 3) := dk_167 0 11 (dk_at dksX0_write_2 15 rfl rfl)
theorem dX0_write_65 : decode cX0_write 65 = .ok (.aload 4, 2) := dk_25 4 (dk_at dksX0_write_2 18 rfl rfl)
theorem dX0_write_67 : decode cX0_write 67 = .ok (.checkcast 321, 3) := dk_192 1 65 (dk_at dksX0_write_2 20 rfl rfl)
theorem dX0_write_70 : decode cX0_write 70 = .ok (.iload_n 2, 1) := dk_28 (dk_at dksX0_write_2 23 rfl rfl)
theorem dX0_write_71 : decode cX0_write 71 = .ok (.iload_n 3, 1) := dk_29 (dk_at dksX0_write_3 0 rfl rfl)
theorem dX0_write_72 : decode cX0_write 72 = .ok (.iastore, 1) := dk_79 (dk_at dksX0_write_3 1 rfl rfl)
theorem dX0_write_73 : decode cX0_write 73 = .ok (.iconst 1, 1) := dk_4 (dk_at dksX0_write_3 2 rfl rfl)
theorem dX0_write_74 : decode cX0_write 74 = .ok (.ireturn, 1) := dk_172 (dk_at dksX0_write_3 3 rfl rfl)
theorem dX0_write_75 : decode cX0_write 75 = .ok (.astore 5, 2) := dk_58 5 (dk_at dksX0_write_3 4 rfl rfl)
theorem dX0_write_77 : decode cX0_write 77 = .ok (.bipush (-11), 2) := dk_16 245 (dk_at dksX0_write_3 6 rfl rfl)
theorem dX0_write_79 : decode cX0_write 79 = .ok (.ireturn, 1) := dk_172 (dk_at dksX0_write_3 8 rfl rfl)
theorem dX0_write_80 : decode cX0_write 80 = .ok (.astore 5, 2) := dk_58 5 (dk_at dksX0_write_3 9 rfl rfl)
theorem dX0_write_82 : decode cX0_write 82 = .ok (.bipush (-12), 2) := dk_16 244 (dk_at dksX0_write_3 11 rfl rfl)
theorem dX0_write_84 : decode cX0_write 84 = .ok (.ireturn, 1) := dk_172 (dk_at dksX0_write_3 13 rfl rfl)
abbrev cX0_read : ByteArray := prog_1_method_71_code
def yX0_read : MethodName := ⟨RX0, "read", "(IIII)I"⟩
def dkwX0_read_5 : List UInt8 := [58, 7, 6, 54, 5, 167, 0, 8, 58, 7, 5, 54, 5, 42, 21, 5, 181, 1, 81, 21, 6, 172]
abbrev dktX0_read_5 : List UInt8 := dkwX0_read_5 ++ []
def dkwX0_read_4 : List UInt8 := [16, 236, 21, 6, 100, 172, 132, 6, 1, 167, 255, 192, 167, 0, 24, 58, 7, 4, 54, 5, 167, 0, 16]
abbrev dktX0_read_4 : List UInt8 := dkwX0_read_4 ++ dktX0_read_5
def dkwX0_read_3 : List UInt8 := [96, 4, 96, 182, 1, 73, 182, 1, 76, 156, 0, 20, 42, 180, 0, 110, 42, 180, 0, 114, 182, 0, 160]
abbrev dktX0_read_3 : List UInt8 := dkwX0_read_3 ++ dktX0_read_4
def dkwX0_read_2 : List UInt8 := [27, 28, 29, 5, 21, 6, 104, 96, 182, 1, 73, 54, 7, 42, 21, 7, 42, 27, 28, 29, 5, 21, 6, 104]
abbrev dktX0_read_2 : List UInt8 := dkwX0_read_2 ++ dktX0_read_3
def dkwX0_read_1 : List UInt8 := [180, 0, 114, 42, 180, 0, 110, 182, 0, 160, 3, 54, 5, 3, 54, 6, 21, 6, 21, 4, 162, 0, 63, 42]
abbrev dktX0_read_1 : List UInt8 := dkwX0_read_1 ++ dktX0_read_2
def dkwX0_read_0 : List UInt8 := [27, 28, 184, 1, 53, 153, 0, 16, 21, 4, 133, 9, 20, 1, 71, 184, 0, 139, 154, 0, 5, 2, 172, 42]
abbrev dktX0_read_0 : List UInt8 := dkwX0_read_0 ++ dktX0_read_1
theorem dksX0_read_0 : cX0_read.data.toList.drop 0 = dktX0_read_0 := by decide +kernel
theorem dksX0_read_1 : cX0_read.data.toList.drop 24 = dktX0_read_1 := dk_seg dksX0_read_0 24 rfl rfl
theorem dksX0_read_2 : cX0_read.data.toList.drop 48 = dktX0_read_2 := dk_seg dksX0_read_1 24 rfl rfl
theorem dksX0_read_3 : cX0_read.data.toList.drop 72 = dktX0_read_3 := dk_seg dksX0_read_2 24 rfl rfl
theorem dksX0_read_4 : cX0_read.data.toList.drop 95 = dktX0_read_4 := dk_seg dksX0_read_3 23 rfl rfl
theorem dksX0_read_5 : cX0_read.data.toList.drop 118 = dktX0_read_5 := dk_seg dksX0_read_4 23 rfl rfl
theorem dX0_read_0 : decode cX0_read 0 = .ok (.iload_n 1, 1) := dk_27 (dk_at dksX0_read_0 0 rfl rfl)
theorem dX0_read_1 : decode cX0_read 1 = .ok (.iload_n 2, 1) := dk_28 (dk_at dksX0_read_0 1 rfl rfl)
theorem dX0_read_2 : decode cX0_read 2 = .ok (.invokestatic 309, 3) := dk_184 1 53 (dk_at dksX0_read_0 2 rfl rfl)
theorem dX0_read_5 : decode cX0_read 5 = .ok (.ifCond .eq 16, 3) := dk_153 0 16 (dk_at dksX0_read_0 5 rfl rfl)
theorem dX0_read_8 : decode cX0_read 8 = .ok (.iload 4, 2) := dk_21 4 (dk_at dksX0_read_0 8 rfl rfl)
theorem dX0_read_10 : decode cX0_read 10 = .ok (.i2l, 1) := dk_133 (dk_at dksX0_read_0 10 rfl rfl)
theorem dX0_read_11 : decode cX0_read 11 = .ok (.lconst 0, 1) := dk_9 (dk_at dksX0_read_0 11 rfl rfl)
theorem dX0_read_12 : decode cX0_read 12 = .ok (.ldc2_w 327, 3) := dk_20 1 71 (dk_at dksX0_read_0 12 rfl rfl)
theorem dX0_read_15 : decode cX0_read 15 = .ok (.invokestatic 139, 3) := dk_184 0 139 (dk_at dksX0_read_0 15 rfl rfl)
theorem dX0_read_18 : decode cX0_read 18 = .ok (.ifCond .ne 5, 3) := dk_154 0 5 (dk_at dksX0_read_0 18 rfl rfl)
theorem dX0_read_21 : decode cX0_read 21 = .ok (.iconst (-1), 1) := dk_2 (dk_at dksX0_read_0 21 rfl rfl)
theorem dX0_read_22 : decode cX0_read 22 = .ok (.ireturn, 1) := dk_172 (dk_at dksX0_read_0 22 rfl rfl)
theorem dX0_read_23 : decode cX0_read 23 = .ok (.aload_n 0, 1) := dk_42 (dk_at dksX0_read_0 23 rfl rfl)
theorem dX0_read_24 : decode cX0_read 24 = .ok (.getfield 114, 3) := dk_180 0 114 (dk_at dksX0_read_1 0 rfl rfl)
theorem dX0_read_27 : decode cX0_read 27 = .ok (.aload_n 0, 1) := dk_42 (dk_at dksX0_read_1 3 rfl rfl)
theorem dX0_read_28 : decode cX0_read 28 = .ok (.getfield 110, 3) := dk_180 0 110 (dk_at dksX0_read_1 4 rfl rfl)
theorem dX0_read_31 : decode cX0_read 31 = .ok (.invokevirtual 160, 3) := dk_182 0 160 (dk_at dksX0_read_1 7 rfl rfl)
theorem dX0_read_34 : decode cX0_read 34 = .ok (.iconst 0, 1) := dk_3 (dk_at dksX0_read_1 10 rfl rfl)
theorem dX0_read_35 : decode cX0_read 35 = .ok (.istore 5, 2) := dk_54 5 (dk_at dksX0_read_1 11 rfl rfl)
theorem dX0_read_37 : decode cX0_read 37 = .ok (.iconst 0, 1) := dk_3 (dk_at dksX0_read_1 13 rfl rfl)
theorem dX0_read_38 : decode cX0_read 38 = .ok (.istore 6, 2) := dk_54 6 (dk_at dksX0_read_1 14 rfl rfl)
theorem dX0_read_40 : decode cX0_read 40 = .ok (.iload 6, 2) := dk_21 6 (dk_at dksX0_read_1 16 rfl rfl)
theorem dX0_read_42 : decode cX0_read 42 = .ok (.iload 4, 2) := dk_21 4 (dk_at dksX0_read_1 18 rfl rfl)
theorem dX0_read_44 : decode cX0_read 44 = .ok (.if_icmp .ge 63, 3) := dk_162 0 63 (dk_at dksX0_read_1 20 rfl rfl)
theorem dX0_read_47 : decode cX0_read 47 = .ok (.aload_n 0, 1) := dk_42 (dk_at dksX0_read_1 23 rfl rfl)
theorem dX0_read_48 : decode cX0_read 48 = .ok (.iload_n 1, 1) := dk_27 (dk_at dksX0_read_2 0 rfl rfl)
theorem dX0_read_49 : decode cX0_read 49 = .ok (.iload_n 2, 1) := dk_28 (dk_at dksX0_read_2 1 rfl rfl)
theorem dX0_read_50 : decode cX0_read 50 = .ok (.iload_n 3, 1) := dk_29 (dk_at dksX0_read_2 2 rfl rfl)
theorem dX0_read_51 : decode cX0_read 51 = .ok (.iconst 2, 1) := dk_5 (dk_at dksX0_read_2 3 rfl rfl)
theorem dX0_read_52 : decode cX0_read 52 = .ok (.iload 6, 2) := dk_21 6 (dk_at dksX0_read_2 4 rfl rfl)
theorem dX0_read_54 : decode cX0_read 54 = .ok (.imul, 1) := dk_104 (dk_at dksX0_read_2 6 rfl rfl)
theorem dX0_read_55 : decode cX0_read 55 = .ok (.iadd, 1) := dk_96 (dk_at dksX0_read_2 7 rfl rfl)
theorem dX0_read_56 : decode cX0_read 56 = .ok (.invokevirtual 329, 3) := dk_182 1 73 (dk_at dksX0_read_2 8 rfl rfl)
theorem dX0_read_59 : decode cX0_read 59 = .ok (.istore 7, 2) := dk_54 7 (dk_at dksX0_read_2 11 rfl rfl)
theorem dX0_read_61 : decode cX0_read 61 = .ok (.aload_n 0, 1) := dk_42 (dk_at dksX0_read_2 13 rfl rfl)
theorem dX0_read_62 : decode cX0_read 62 = .ok (.iload 7, 2) := dk_21 7 (dk_at dksX0_read_2 14 rfl rfl)
theorem dX0_read_64 : decode cX0_read 64 = .ok (.aload_n 0, 1) := dk_42 (dk_at dksX0_read_2 16 rfl rfl)
theorem dX0_read_65 : decode cX0_read 65 = .ok (.iload_n 1, 1) := dk_27 (dk_at dksX0_read_2 17 rfl rfl)
theorem dX0_read_66 : decode cX0_read 66 = .ok (.iload_n 2, 1) := dk_28 (dk_at dksX0_read_2 18 rfl rfl)
theorem dX0_read_67 : decode cX0_read 67 = .ok (.iload_n 3, 1) := dk_29 (dk_at dksX0_read_2 19 rfl rfl)
theorem dX0_read_68 : decode cX0_read 68 = .ok (.iconst 2, 1) := dk_5 (dk_at dksX0_read_2 20 rfl rfl)
theorem dX0_read_69 : decode cX0_read 69 = .ok (.iload 6, 2) := dk_21 6 (dk_at dksX0_read_2 21 rfl rfl)
theorem dX0_read_71 : decode cX0_read 71 = .ok (.imul, 1) := dk_104 (dk_at dksX0_read_2 23 rfl rfl)
theorem dX0_read_72 : decode cX0_read 72 = .ok (.iadd, 1) := dk_96 (dk_at dksX0_read_3 0 rfl rfl)
theorem dX0_read_73 : decode cX0_read 73 = .ok (.iconst 1, 1) := dk_4 (dk_at dksX0_read_3 1 rfl rfl)
theorem dX0_read_74 : decode cX0_read 74 = .ok (.iadd, 1) := dk_96 (dk_at dksX0_read_3 2 rfl rfl)
theorem dX0_read_75 : decode cX0_read 75 = .ok (.invokevirtual 329, 3) := dk_182 1 73 (dk_at dksX0_read_3 3 rfl rfl)
theorem dX0_read_78 : decode cX0_read 78 = .ok (.invokevirtual 332, 3) := dk_182 1 76 (dk_at dksX0_read_3 6 rfl rfl)
theorem dX0_read_81 : decode cX0_read 81 = .ok (.ifCond .ge 20, 3) := dk_156 0 20 (dk_at dksX0_read_3 9 rfl rfl)
theorem dX0_read_84 : decode cX0_read 84 = .ok (.aload_n 0, 1) := dk_42 (dk_at dksX0_read_3 12 rfl rfl)
theorem dX0_read_85 : decode cX0_read 85 = .ok (.getfield 110, 3) := dk_180 0 110 (dk_at dksX0_read_3 13 rfl rfl)
theorem dX0_read_88 : decode cX0_read 88 = .ok (.aload_n 0, 1) := dk_42 (dk_at dksX0_read_3 16 rfl rfl)
theorem dX0_read_89 : decode cX0_read 89 = .ok (.getfield 114, 3) := dk_180 0 114 (dk_at dksX0_read_3 17 rfl rfl)
theorem dX0_read_92 : decode cX0_read 92 = .ok (.invokevirtual 160, 3) := dk_182 0 160 (dk_at dksX0_read_3 20 rfl rfl)
theorem dX0_read_95 : decode cX0_read 95 = .ok (.bipush (-20), 2) := dk_16 236 (dk_at dksX0_read_4 0 rfl rfl)
theorem dX0_read_97 : decode cX0_read 97 = .ok (.iload 6, 2) := dk_21 6 (dk_at dksX0_read_4 2 rfl rfl)
theorem dX0_read_99 : decode cX0_read 99 = .ok (.isub, 1) := dk_100 (dk_at dksX0_read_4 4 rfl rfl)
theorem dX0_read_100 : decode cX0_read 100 = .ok (.ireturn, 1) := dk_172 (dk_at dksX0_read_4 5 rfl rfl)
theorem dX0_read_101 : decode cX0_read 101 = .ok (.iinc 6 1, 3) := dk_132 6 1 (dk_at dksX0_read_4 6 rfl rfl)
theorem dX0_read_104 : decode cX0_read 104 = .ok (.goto (-64), 3) := dk_167 255 192 (dk_at dksX0_read_4 9 rfl rfl)
theorem dX0_read_107 : decode cX0_read 107 = .ok (.goto 24, 3) := dk_167 0 24 (dk_at dksX0_read_4 12 rfl rfl)
theorem dX0_read_110 : decode cX0_read 110 = .ok (.astore 7, 2) := dk_58 7 (dk_at dksX0_read_4 15 rfl rfl)
theorem dX0_read_112 : decode cX0_read 112 = .ok (.iconst 1, 1) := dk_4 (dk_at dksX0_read_4 17 rfl rfl)
theorem dX0_read_113 : decode cX0_read 113 = .ok (.istore 5, 2) := dk_54 5 (dk_at dksX0_read_4 18 rfl rfl)
theorem dX0_read_115 : decode cX0_read 115 = .ok (.goto 16, 3) := dk_167 0 16 (dk_at dksX0_read_4 20 rfl rfl)
theorem dX0_read_118 : decode cX0_read 118 = .ok (.astore 7, 2) := dk_58 7 (dk_at dksX0_read_5 0 rfl rfl)
theorem dX0_read_120 : decode cX0_read 120 = .ok (.iconst 3, 1) := dk_6 (dk_at dksX0_read_5 2 rfl rfl)
theorem dX0_read_121 : decode cX0_read 121 = .ok (.istore 5, 2) := dk_54 5 (dk_at dksX0_read_5 3 rfl rfl)
theorem dX0_read_123 : decode cX0_read 123 = .ok (.goto 8, 3) := dk_167 0 8 (dk_at dksX0_read_5 5 rfl rfl)
theorem dX0_read_126 : decode cX0_read 126 = .ok (.astore 7, 2) := dk_58 7 (dk_at dksX0_read_5 8 rfl rfl)
theorem dX0_read_128 : decode cX0_read 128 = .ok (.iconst 2, 1) := dk_5 (dk_at dksX0_read_5 10 rfl rfl)
theorem dX0_read_129 : decode cX0_read 129 = .ok (.istore 5, 2) := dk_54 5 (dk_at dksX0_read_5 11 rfl rfl)
theorem dX0_read_131 : decode cX0_read 131 = .ok (.aload_n 0, 1) := dk_42 (dk_at dksX0_read_5 13 rfl rfl)
theorem dX0_read_132 : decode cX0_read 132 = .ok (.iload 5, 2) := dk_21 5 (dk_at dksX0_read_5 14 rfl rfl)
theorem dX0_read_134 : decode cX0_read 134 = .ok (.putfield 337, 3) := dk_181 1 81 (dk_at dksX0_read_5 16 rfl rfl)
theorem dX0_read_137 : decode cX0_read 137 = .ok (.iload 6, 2) := dk_21 6 (dk_at dksX0_read_5 19 rfl rfl)
theorem dX0_read_139 : decode cX0_read 139 = .ok (.ireturn, 1) := dk_172 (dk_at dksX0_read_5 21 rfl rfl)
abbrev cX0_takenOf : ByteArray := prog_1_method_70_code
def yX0_takenOf : MethodName := ⟨RX0, "takenOf", "(III)I"⟩
def dkwX0_takenOf_2 : List UInt8 := [46, 172]
abbrev dktX0_takenOf_2 : List UInt8 := dkwX0_takenOf_2 ++ []
def dkwX0_takenOf_1 : List UInt8 := [167, 0, 25, 28, 4, 160, 0, 13, 25, 4, 192, 1, 63, 29, 53, 167, 0, 10, 25, 4, 192, 1, 65, 29]
abbrev dktX0_takenOf_1 : List UInt8 := dkwX0_takenOf_1 ++ dktX0_takenOf_2
def dkwX0_takenOf_0 : List UInt8 := [42, 180, 0, 132, 27, 50, 180, 1, 56, 58, 4, 28, 154, 0, 13, 25, 4, 192, 1, 62, 29, 51]
abbrev dktX0_takenOf_0 : List UInt8 := dkwX0_takenOf_0 ++ dktX0_takenOf_1
theorem dksX0_takenOf_0 : cX0_takenOf.data.toList.drop 0 = dktX0_takenOf_0 := by decide +kernel
theorem dksX0_takenOf_1 : cX0_takenOf.data.toList.drop 22 = dktX0_takenOf_1 := dk_seg dksX0_takenOf_0 22 rfl rfl
theorem dksX0_takenOf_2 : cX0_takenOf.data.toList.drop 46 = dktX0_takenOf_2 := dk_seg dksX0_takenOf_1 24 rfl rfl
theorem dX0_takenOf_0 : decode cX0_takenOf 0 = .ok (.aload_n 0, 1) := dk_42 (dk_at dksX0_takenOf_0 0 rfl rfl)
theorem dX0_takenOf_1 : decode cX0_takenOf 1 = .ok (.getfield 132, 3) := dk_180 0 132 (dk_at dksX0_takenOf_0 1 rfl rfl)
theorem dX0_takenOf_4 : decode cX0_takenOf 4 = .ok (.iload_n 1, 1) := dk_27 (dk_at dksX0_takenOf_0 4 rfl rfl)
theorem dX0_takenOf_5 : decode cX0_takenOf 5 = .ok (.aaload, 1) := dk_50 (dk_at dksX0_takenOf_0 5 rfl rfl)
theorem dX0_takenOf_6 : decode cX0_takenOf 6 = .ok (.getfield 312, 3) := dk_180 1 56 (dk_at dksX0_takenOf_0 6 rfl rfl)
theorem dX0_takenOf_9 : decode cX0_takenOf 9 = .ok (.astore 4, 2) := dk_58 4 (dk_at dksX0_takenOf_0 9 rfl rfl)
theorem dX0_takenOf_11 : decode cX0_takenOf 11 = .ok (.iload_n 2, 1) := dk_28 (dk_at dksX0_takenOf_0 11 rfl rfl)
theorem dX0_takenOf_12 : decode cX0_takenOf 12 = .ok (.ifCond .ne 13, 3) := dk_154 0 13 (dk_at dksX0_takenOf_0 12 rfl rfl)
theorem dX0_takenOf_15 : decode cX0_takenOf 15 = .ok (.aload 4, 2) := dk_25 4 (dk_at dksX0_takenOf_0 15 rfl rfl)
theorem dX0_takenOf_17 : decode cX0_takenOf 17 = .ok (.checkcast 318, 3) := dk_192 1 62 (dk_at dksX0_takenOf_0 17 rfl rfl)
theorem dX0_takenOf_20 : decode cX0_takenOf 20 = .ok (.iload_n 3, 1) := dk_29 (dk_at dksX0_takenOf_0 20 rfl rfl)
theorem dX0_takenOf_21 : decode cX0_takenOf 21 = .ok (.baload, 1) := dk_51 (dk_at dksX0_takenOf_0 21 rfl rfl)
theorem dX0_takenOf_22 : decode cX0_takenOf 22 = .ok (.goto 25, 3) := dk_167 0 25 (dk_at dksX0_takenOf_1 0 rfl rfl)
theorem dX0_takenOf_25 : decode cX0_takenOf 25 = .ok (.iload_n 2, 1) := dk_28 (dk_at dksX0_takenOf_1 3 rfl rfl)
theorem dX0_takenOf_26 : decode cX0_takenOf 26 = .ok (.iconst 1, 1) := dk_4 (dk_at dksX0_takenOf_1 4 rfl rfl)
theorem dX0_takenOf_27 : decode cX0_takenOf 27 = .ok (.if_icmp .ne 13, 3) := dk_160 0 13 (dk_at dksX0_takenOf_1 5 rfl rfl)
theorem dX0_takenOf_30 : decode cX0_takenOf 30 = .ok (.aload 4, 2) := dk_25 4 (dk_at dksX0_takenOf_1 8 rfl rfl)
theorem dX0_takenOf_32 : decode cX0_takenOf 32 = .ok (.checkcast 319, 3) := dk_192 1 63 (dk_at dksX0_takenOf_1 10 rfl rfl)
theorem dX0_takenOf_35 : decode cX0_takenOf 35 = .ok (.iload_n 3, 1) := dk_29 (dk_at dksX0_takenOf_1 13 rfl rfl)
theorem dX0_takenOf_36 : decode cX0_takenOf 36 = .ok (.saload, 1) := dk_53 (dk_at dksX0_takenOf_1 14 rfl rfl)
theorem dX0_takenOf_37 : decode cX0_takenOf 37 = .ok (.goto 10, 3) := dk_167 0 10 (dk_at dksX0_takenOf_1 15 rfl rfl)
theorem dX0_takenOf_40 : decode cX0_takenOf 40 = .ok (.aload 4, 2) := dk_25 4 (dk_at dksX0_takenOf_1 18 rfl rfl)
theorem dX0_takenOf_42 : decode cX0_takenOf 42 = .ok (.checkcast 321, 3) := dk_192 1 65 (dk_at dksX0_takenOf_1 20 rfl rfl)
theorem dX0_takenOf_45 : decode cX0_takenOf 45 = .ok (.iload_n 3, 1) := dk_29 (dk_at dksX0_takenOf_1 23 rfl rfl)
theorem dX0_takenOf_46 : decode cX0_takenOf 46 = .ok (.iaload, 1) := dk_46 (dk_at dksX0_takenOf_2 0 rfl rfl)
theorem dX0_takenOf_47 : decode cX0_takenOf 47 = .ok (.ireturn, 1) := dk_172 (dk_at dksX0_takenOf_2 1 rfl rfl)
abbrev cX0_torn : ByteArray := prog_1_method_72_code
def yX0_torn : MethodName := ⟨RX0, "torn", "()I"⟩
theorem dX0_torn_0 : decode cX0_torn 0 = .ok (.aload_n 0, 1) := by decide +kernel
theorem dX0_torn_1 : decode cX0_torn 1 = .ok (.getfield 337, 3) := by decide +kernel
theorem dX0_torn_4 : decode cX0_torn 4 = .ok (.ireturn, 1) := by decide +kernel
abbrev cX0_count : ByteArray := prog_1_method_73_code
def yX0_count : MethodName := ⟨RX0, "count", "(I)I"⟩
def dkwX0_count_9 : List UInt8 := [21, 5, 172, 2, 172]
abbrev dktX0_count_9 : List UInt8 := dkwX0_count_9 ++ []
def dkwX0_count_8 : List UInt8 := [42, 180, 0, 164, 172, 42, 180, 0, 167, 184, 0, 88, 172, 42, 180, 0, 143, 172, 29, 172, 21, 4, 172]
abbrev dktX0_count_8 : List UInt8 := dkwX0_count_8 ++ dktX0_count_9
def dkwX0_count_7 : List UInt8 := [170, 0, 0, 0, 0, 0, 65, 0, 0, 0, 0, 0, 0, 0, 5, 0, 0, 0, 39, 0, 0, 0, 44, 0, 0, 0, 52, 0, 0, 0, 57, 0, 0, 0, 59, 0, 0, 0, 62]
abbrev dktX0_count_7 : List UInt8 := dkwX0_count_7 ++ dktX0_count_8
def dkwX0_count_6 : List UInt8 := [51, 96, 54, 5, 132, 6, 1, 167, 255, 222, 27]
abbrev dktX0_count_6 : List UInt8 := dkwX0_count_6 ++ dktX0_count_7
def dkwX0_count_5 : List UInt8 := [180, 0, 110, 180, 0, 187, 162, 0, 28, 21, 5, 42, 180, 0, 110, 180, 0, 16, 5, 21, 6, 104, 4, 96]
abbrev dktX0_count_5 : List UInt8 := dkwX0_count_5 ++ dktX0_count_6
def dkwX0_count_4 : List UInt8 := [154, 0, 7, 4, 167, 0, 4, 3, 96, 54, 4, 132, 6, 1, 167, 255, 218, 3, 54, 6, 21, 6, 42]
abbrev dktX0_count_4 : List UInt8 := dkwX0_count_4 ++ dktX0_count_5
def dkwX0_count_3 : List UInt8 := [21, 6, 42, 180, 0, 110, 180, 0, 184, 162, 0, 32, 21, 4, 42, 180, 0, 110, 180, 0, 70, 21, 6, 51]
abbrev dktX0_count_3 : List UInt8 := dkwX0_count_3 ++ dktX0_count_4
def dkwX0_count_2 : List UInt8 := [153, 0, 11, 44, 192, 1, 65, 190, 167, 0, 5, 16, 252, 62, 3, 54, 4, 3, 54, 5, 3, 54, 6]
abbrev dktX0_count_2 : List UInt8 := dkwX0_count_2 ++ dktX0_count_3
def dkwX0_count_1 : List UInt8 := [167, 0, 35, 44, 193, 1, 63, 153, 0, 11, 44, 192, 1, 63, 190, 167, 0, 20, 44, 193, 1, 65]
abbrev dktX0_count_1 : List UInt8 := dkwX0_count_1 ++ dktX0_count_2
def dkwX0_count_0 : List UInt8 := [42, 180, 0, 132, 3, 50, 180, 1, 56, 77, 44, 193, 1, 62, 153, 0, 11, 44, 192, 1, 62, 190]
abbrev dktX0_count_0 : List UInt8 := dkwX0_count_0 ++ dktX0_count_1
theorem dksX0_count_0 : cX0_count.data.toList.drop 0 = dktX0_count_0 := by decide +kernel
theorem dksX0_count_1 : cX0_count.data.toList.drop 22 = dktX0_count_1 := dk_seg dksX0_count_0 22 rfl rfl
theorem dksX0_count_2 : cX0_count.data.toList.drop 44 = dktX0_count_2 := dk_seg dksX0_count_1 22 rfl rfl
theorem dksX0_count_3 : cX0_count.data.toList.drop 67 = dktX0_count_3 := dk_seg dksX0_count_2 23 rfl rfl
theorem dksX0_count_4 : cX0_count.data.toList.drop 91 = dktX0_count_4 := dk_seg dksX0_count_3 24 rfl rfl
theorem dksX0_count_5 : cX0_count.data.toList.drop 114 = dktX0_count_5 := dk_seg dksX0_count_4 23 rfl rfl
theorem dksX0_count_6 : cX0_count.data.toList.drop 138 = dktX0_count_6 := dk_seg dksX0_count_5 24 rfl rfl
theorem dksX0_count_7 : cX0_count.data.toList.drop 149 = dktX0_count_7 := dk_seg dksX0_count_6 11 rfl rfl
theorem dksX0_count_8 : cX0_count.data.toList.drop 188 = dktX0_count_8 := dk_seg dksX0_count_7 39 rfl rfl
theorem dksX0_count_9 : cX0_count.data.toList.drop 211 = dktX0_count_9 := dk_seg dksX0_count_8 23 rfl rfl
theorem dX0_count_0 : decode cX0_count 0 = .ok (.aload_n 0, 1) := dk_42 (dk_at dksX0_count_0 0 rfl rfl)
theorem dX0_count_1 : decode cX0_count 1 = .ok (.getfield 132, 3) := dk_180 0 132 (dk_at dksX0_count_0 1 rfl rfl)
theorem dX0_count_4 : decode cX0_count 4 = .ok (.iconst 0, 1) := dk_3 (dk_at dksX0_count_0 4 rfl rfl)
theorem dX0_count_5 : decode cX0_count 5 = .ok (.aaload, 1) := dk_50 (dk_at dksX0_count_0 5 rfl rfl)
theorem dX0_count_6 : decode cX0_count 6 = .ok (.getfield 312, 3) := dk_180 1 56 (dk_at dksX0_count_0 6 rfl rfl)
theorem dX0_count_9 : decode cX0_count 9 = .ok (.astore_n 2, 1) := dk_77 (dk_at dksX0_count_0 9 rfl rfl)
theorem dX0_count_10 : decode cX0_count 10 = .ok (.aload_n 2, 1) := dk_44 (dk_at dksX0_count_0 10 rfl rfl)
theorem dX0_count_11 : decode cX0_count 11 = .ok (.instanceof 318, 3) := dk_193 1 62 (dk_at dksX0_count_0 11 rfl rfl)
theorem dX0_count_14 : decode cX0_count 14 = .ok (.ifCond .eq 11, 3) := dk_153 0 11 (dk_at dksX0_count_0 14 rfl rfl)
theorem dX0_count_17 : decode cX0_count 17 = .ok (.aload_n 2, 1) := dk_44 (dk_at dksX0_count_0 17 rfl rfl)
theorem dX0_count_18 : decode cX0_count 18 = .ok (.checkcast 318, 3) := dk_192 1 62 (dk_at dksX0_count_0 18 rfl rfl)
theorem dX0_count_21 : decode cX0_count 21 = .ok (.arraylength, 1) := dk_190 (dk_at dksX0_count_0 21 rfl rfl)
theorem dX0_count_22 : decode cX0_count 22 = .ok (.goto 35, 3) := dk_167 0 35 (dk_at dksX0_count_1 0 rfl rfl)
theorem dX0_count_25 : decode cX0_count 25 = .ok (.aload_n 2, 1) := dk_44 (dk_at dksX0_count_1 3 rfl rfl)
theorem dX0_count_26 : decode cX0_count 26 = .ok (.instanceof 319, 3) := dk_193 1 63 (dk_at dksX0_count_1 4 rfl rfl)
theorem dX0_count_29 : decode cX0_count 29 = .ok (.ifCond .eq 11, 3) := dk_153 0 11 (dk_at dksX0_count_1 7 rfl rfl)
theorem dX0_count_32 : decode cX0_count 32 = .ok (.aload_n 2, 1) := dk_44 (dk_at dksX0_count_1 10 rfl rfl)
theorem dX0_count_33 : decode cX0_count 33 = .ok (.checkcast 319, 3) := dk_192 1 63 (dk_at dksX0_count_1 11 rfl rfl)
theorem dX0_count_36 : decode cX0_count 36 = .ok (.arraylength, 1) := dk_190 (dk_at dksX0_count_1 14 rfl rfl)
theorem dX0_count_37 : decode cX0_count 37 = .ok (.goto 20, 3) := dk_167 0 20 (dk_at dksX0_count_1 15 rfl rfl)
theorem dX0_count_40 : decode cX0_count 40 = .ok (.aload_n 2, 1) := dk_44 (dk_at dksX0_count_1 18 rfl rfl)
theorem dX0_count_41 : decode cX0_count 41 = .ok (.instanceof 321, 3) := dk_193 1 65 (dk_at dksX0_count_1 19 rfl rfl)
theorem dX0_count_44 : decode cX0_count 44 = .ok (.ifCond .eq 11, 3) := dk_153 0 11 (dk_at dksX0_count_2 0 rfl rfl)
theorem dX0_count_47 : decode cX0_count 47 = .ok (.aload_n 2, 1) := dk_44 (dk_at dksX0_count_2 3 rfl rfl)
theorem dX0_count_48 : decode cX0_count 48 = .ok (.checkcast 321, 3) := dk_192 1 65 (dk_at dksX0_count_2 4 rfl rfl)
theorem dX0_count_51 : decode cX0_count 51 = .ok (.arraylength, 1) := dk_190 (dk_at dksX0_count_2 7 rfl rfl)
theorem dX0_count_52 : decode cX0_count 52 = .ok (.goto 5, 3) := dk_167 0 5 (dk_at dksX0_count_2 8 rfl rfl)
theorem dX0_count_55 : decode cX0_count 55 = .ok (.bipush (-4), 2) := dk_16 252 (dk_at dksX0_count_2 11 rfl rfl)
theorem dX0_count_57 : decode cX0_count 57 = .ok (.istore_n 3, 1) := dk_62 (dk_at dksX0_count_2 13 rfl rfl)
theorem dX0_count_58 : decode cX0_count 58 = .ok (.iconst 0, 1) := dk_3 (dk_at dksX0_count_2 14 rfl rfl)
theorem dX0_count_59 : decode cX0_count 59 = .ok (.istore 4, 2) := dk_54 4 (dk_at dksX0_count_2 15 rfl rfl)
theorem dX0_count_61 : decode cX0_count 61 = .ok (.iconst 0, 1) := dk_3 (dk_at dksX0_count_2 17 rfl rfl)
theorem dX0_count_62 : decode cX0_count 62 = .ok (.istore 5, 2) := dk_54 5 (dk_at dksX0_count_2 18 rfl rfl)
theorem dX0_count_64 : decode cX0_count 64 = .ok (.iconst 0, 1) := dk_3 (dk_at dksX0_count_2 20 rfl rfl)
theorem dX0_count_65 : decode cX0_count 65 = .ok (.istore 6, 2) := dk_54 6 (dk_at dksX0_count_2 21 rfl rfl)
theorem dX0_count_67 : decode cX0_count 67 = .ok (.iload 6, 2) := dk_21 6 (dk_at dksX0_count_3 0 rfl rfl)
theorem dX0_count_69 : decode cX0_count 69 = .ok (.aload_n 0, 1) := dk_42 (dk_at dksX0_count_3 2 rfl rfl)
theorem dX0_count_70 : decode cX0_count 70 = .ok (.getfield 110, 3) := dk_180 0 110 (dk_at dksX0_count_3 3 rfl rfl)
theorem dX0_count_73 : decode cX0_count 73 = .ok (.getfield 184, 3) := dk_180 0 184 (dk_at dksX0_count_3 6 rfl rfl)
theorem dX0_count_76 : decode cX0_count 76 = .ok (.if_icmp .ge 32, 3) := dk_162 0 32 (dk_at dksX0_count_3 9 rfl rfl)
theorem dX0_count_79 : decode cX0_count 79 = .ok (.iload 4, 2) := dk_21 4 (dk_at dksX0_count_3 12 rfl rfl)
theorem dX0_count_81 : decode cX0_count 81 = .ok (.aload_n 0, 1) := dk_42 (dk_at dksX0_count_3 14 rfl rfl)
theorem dX0_count_82 : decode cX0_count 82 = .ok (.getfield 110, 3) := dk_180 0 110 (dk_at dksX0_count_3 15 rfl rfl)
theorem dX0_count_85 : decode cX0_count 85 = .ok (.getfield 70, 3) := dk_180 0 70 (dk_at dksX0_count_3 18 rfl rfl)
theorem dX0_count_88 : decode cX0_count 88 = .ok (.iload 6, 2) := dk_21 6 (dk_at dksX0_count_3 21 rfl rfl)
theorem dX0_count_90 : decode cX0_count 90 = .ok (.baload, 1) := dk_51 (dk_at dksX0_count_3 23 rfl rfl)
theorem dX0_count_91 : decode cX0_count 91 = .ok (.ifCond .ne 7, 3) := dk_154 0 7 (dk_at dksX0_count_4 0 rfl rfl)
theorem dX0_count_94 : decode cX0_count 94 = .ok (.iconst 1, 1) := dk_4 (dk_at dksX0_count_4 3 rfl rfl)
theorem dX0_count_95 : decode cX0_count 95 = .ok (.goto 4, 3) := dk_167 0 4 (dk_at dksX0_count_4 4 rfl rfl)
theorem dX0_count_98 : decode cX0_count 98 = .ok (.iconst 0, 1) := dk_3 (dk_at dksX0_count_4 7 rfl rfl)
theorem dX0_count_99 : decode cX0_count 99 = .ok (.iadd, 1) := dk_96 (dk_at dksX0_count_4 8 rfl rfl)
theorem dX0_count_100 : decode cX0_count 100 = .ok (.istore 4, 2) := dk_54 4 (dk_at dksX0_count_4 9 rfl rfl)
theorem dX0_count_102 : decode cX0_count 102 = .ok (.iinc 6 1, 3) := dk_132 6 1 (dk_at dksX0_count_4 11 rfl rfl)
theorem dX0_count_105 : decode cX0_count 105 = .ok (.goto (-38), 3) := dk_167 255 218 (dk_at dksX0_count_4 14 rfl rfl)
theorem dX0_count_108 : decode cX0_count 108 = .ok (.iconst 0, 1) := dk_3 (dk_at dksX0_count_4 17 rfl rfl)
theorem dX0_count_109 : decode cX0_count 109 = .ok (.istore 6, 2) := dk_54 6 (dk_at dksX0_count_4 18 rfl rfl)
theorem dX0_count_111 : decode cX0_count 111 = .ok (.iload 6, 2) := dk_21 6 (dk_at dksX0_count_4 20 rfl rfl)
theorem dX0_count_113 : decode cX0_count 113 = .ok (.aload_n 0, 1) := dk_42 (dk_at dksX0_count_4 22 rfl rfl)
theorem dX0_count_114 : decode cX0_count 114 = .ok (.getfield 110, 3) := dk_180 0 110 (dk_at dksX0_count_5 0 rfl rfl)
theorem dX0_count_117 : decode cX0_count 117 = .ok (.getfield 187, 3) := dk_180 0 187 (dk_at dksX0_count_5 3 rfl rfl)
theorem dX0_count_120 : decode cX0_count 120 = .ok (.if_icmp .ge 28, 3) := dk_162 0 28 (dk_at dksX0_count_5 6 rfl rfl)
theorem dX0_count_123 : decode cX0_count 123 = .ok (.iload 5, 2) := dk_21 5 (dk_at dksX0_count_5 9 rfl rfl)
theorem dX0_count_125 : decode cX0_count 125 = .ok (.aload_n 0, 1) := dk_42 (dk_at dksX0_count_5 11 rfl rfl)
theorem dX0_count_126 : decode cX0_count 126 = .ok (.getfield 110, 3) := dk_180 0 110 (dk_at dksX0_count_5 12 rfl rfl)
theorem dX0_count_129 : decode cX0_count 129 = .ok (.getfield 16, 3) := dk_180 0 16 (dk_at dksX0_count_5 15 rfl rfl)
theorem dX0_count_132 : decode cX0_count 132 = .ok (.iconst 2, 1) := dk_5 (dk_at dksX0_count_5 18 rfl rfl)
theorem dX0_count_133 : decode cX0_count 133 = .ok (.iload 6, 2) := dk_21 6 (dk_at dksX0_count_5 19 rfl rfl)
theorem dX0_count_135 : decode cX0_count 135 = .ok (.imul, 1) := dk_104 (dk_at dksX0_count_5 21 rfl rfl)
theorem dX0_count_136 : decode cX0_count 136 = .ok (.iconst 1, 1) := dk_4 (dk_at dksX0_count_5 22 rfl rfl)
theorem dX0_count_137 : decode cX0_count 137 = .ok (.iadd, 1) := dk_96 (dk_at dksX0_count_5 23 rfl rfl)
theorem dX0_count_138 : decode cX0_count 138 = .ok (.baload, 1) := dk_51 (dk_at dksX0_count_6 0 rfl rfl)
theorem dX0_count_139 : decode cX0_count 139 = .ok (.iadd, 1) := dk_96 (dk_at dksX0_count_6 1 rfl rfl)
theorem dX0_count_140 : decode cX0_count 140 = .ok (.istore 5, 2) := dk_54 5 (dk_at dksX0_count_6 2 rfl rfl)
theorem dX0_count_142 : decode cX0_count 142 = .ok (.iinc 6 1, 3) := dk_132 6 1 (dk_at dksX0_count_6 4 rfl rfl)
theorem dX0_count_145 : decode cX0_count 145 = .ok (.goto (-34), 3) := dk_167 255 222 (dk_at dksX0_count_6 7 rfl rfl)
theorem dX0_count_148 : decode cX0_count 148 = .ok (.iload_n 1, 1) := dk_27 (dk_at dksX0_count_6 10 rfl rfl)
theorem dX0_count_149 : decode cX0_count 149 = .ok (.tableswitch 65 0 5 #[39, 44, 52, 57, 59, 62], 39) := by decide +kernel
theorem dX0_count_188 : decode cX0_count 188 = .ok (.aload_n 0, 1) := dk_42 (dk_at dksX0_count_8 0 rfl rfl)
theorem dX0_count_189 : decode cX0_count 189 = .ok (.getfield 164, 3) := dk_180 0 164 (dk_at dksX0_count_8 1 rfl rfl)
theorem dX0_count_192 : decode cX0_count 192 = .ok (.ireturn, 1) := dk_172 (dk_at dksX0_count_8 4 rfl rfl)
theorem dX0_count_193 : decode cX0_count 193 = .ok (.aload_n 0, 1) := dk_42 (dk_at dksX0_count_8 5 rfl rfl)
theorem dX0_count_194 : decode cX0_count 194 = .ok (.getfield 167, 3) := dk_180 0 167 (dk_at dksX0_count_8 6 rfl rfl)
theorem dX0_count_197 : decode cX0_count 197 = .ok (.invokestatic 88, 3) := dk_184 0 88 (dk_at dksX0_count_8 9 rfl rfl)
theorem dX0_count_200 : decode cX0_count 200 = .ok (.ireturn, 1) := dk_172 (dk_at dksX0_count_8 12 rfl rfl)
theorem dX0_count_201 : decode cX0_count 201 = .ok (.aload_n 0, 1) := dk_42 (dk_at dksX0_count_8 13 rfl rfl)
theorem dX0_count_202 : decode cX0_count 202 = .ok (.getfield 143, 3) := dk_180 0 143 (dk_at dksX0_count_8 14 rfl rfl)
theorem dX0_count_205 : decode cX0_count 205 = .ok (.ireturn, 1) := dk_172 (dk_at dksX0_count_8 17 rfl rfl)
theorem dX0_count_206 : decode cX0_count 206 = .ok (.iload_n 3, 1) := dk_29 (dk_at dksX0_count_8 18 rfl rfl)
theorem dX0_count_207 : decode cX0_count 207 = .ok (.ireturn, 1) := dk_172 (dk_at dksX0_count_8 19 rfl rfl)
theorem dX0_count_208 : decode cX0_count 208 = .ok (.iload 4, 2) := dk_21 4 (dk_at dksX0_count_8 20 rfl rfl)
theorem dX0_count_210 : decode cX0_count 210 = .ok (.ireturn, 1) := dk_172 (dk_at dksX0_count_8 22 rfl rfl)
theorem dX0_count_211 : decode cX0_count 211 = .ok (.iload 5, 2) := dk_21 5 (dk_at dksX0_count_9 0 rfl rfl)
theorem dX0_count_213 : decode cX0_count 213 = .ok (.ireturn, 1) := dk_172 (dk_at dksX0_count_9 2 rfl rfl)
theorem dX0_count_214 : decode cX0_count 214 = .ok (.iconst (-1), 1) := dk_2 (dk_at dksX0_count_9 3 rfl rfl)
theorem dX0_count_215 : decode cX0_count 215 = .ok (.ireturn, 1) := dk_172 (dk_at dksX0_count_9 4 rfl rfl)
theorem q60 : (Jvm.Cond.initialized "HedgehogLots") ∈ lw_all := lw_g (lw_at lw_m1 1 rfl) rfl
theorem q86 : (Jvm.Cond.instantiable "HedgehogLots" (23 : Nat)) ∈ lw_all := lw_g (lw_at lw_m1 27 rfl) rfl
theorem q88 : (Jvm.Cond.instanceMethod ({ cls := "HedgehogLots", name := "<init>", desc := "()V" } : Jvm.MethodName)) ∈ lw_all := lw_g (lw_at lw_m1 29 rfl) rfl
theorem q89 : (Jvm.Cond.code ({ cls := "HedgehogLots", name := "<init>", desc := "()V" } : Jvm.MethodName) prog_1_method_10_code (2 : Nat) (Option.none : Option Jvm.ClassFile.FieldType)) ∈ lw_all := lw_g (lw_at lw_m1 30 rfl) rfl
theorem q90 : (Jvm.Cond.methodLink "HedgehogLots" (93 : Nat) ({ cls := "java/lang/Object", name := "<init>", desc := "()V" } : Jvm.MethodName)) ∈ lw_all := lw_g (lw_at lw_m1 31 rfl) rfl
theorem q93 : (Jvm.Cond.classLink "HedgehogLots" (48 : Nat) "HedgehogLots$Plain") ∈ lw_all := lw_g (lw_at lw_m1 34 rfl) rfl
theorem q96 : (Jvm.Cond.methodLinkNest "HedgehogLots" (99 : Nat) ({ cls := "HedgehogLots$Plain", name := "<init>", desc := "()V" } : Jvm.MethodName) "HedgehogLots") ∈ lw_tbl := lw_at lw_m1 37 rfl
theorem q101 : (Jvm.Cond.classLink "HedgehogLots" (100 : Nat) "HedgehogLots$Fat") ∈ lw_all := lw_g (lw_at lw_m1 42 rfl) rfl
theorem q103 : (Jvm.Cond.methodLinkNest "HedgehogLots" (102 : Nat) ({ cls := "HedgehogLots$Fat", name := "<init>", desc := "()V" } : Jvm.MethodName) "HedgehogLots") ∈ lw_tbl := lw_at lw_m1 44 rfl
theorem q108 : (Jvm.Cond.classLink "HedgehogLots" (103 : Nat) "HedgehogLots$Young") ∈ lw_all := lw_g (lw_at lw_m1 49 rfl) rfl
theorem q110 : (Jvm.Cond.methodLinkNest "HedgehogLots" (105 : Nat) ({ cls := "HedgehogLots$Young", name := "<init>", desc := "()V" } : Jvm.MethodName) "HedgehogLots") ∈ lw_tbl := lw_at lw_m1 51 rfl
theorem q115 : (Jvm.Cond.classLink "HedgehogLots" (106 : Nat) "HedgehogLots$Boar") ∈ lw_all := lw_g (lw_at lw_m1 56 rfl) rfl
theorem q117 : (Jvm.Cond.methodLinkNest "HedgehogLots" (108 : Nat) ({ cls := "HedgehogLots$Boar", name := "<init>", desc := "()V" } : Jvm.MethodName) "HedgehogLots") ∈ lw_tbl := lw_at lw_m1 58 rfl
theorem q122 : (Jvm.Cond.classLink "HedgehogLots" (17 : Nat) "HedgehogLots$Slope") ∈ lw_all := lw_g (lw_at lw_m1 63 rfl) rfl
theorem q124 : (Jvm.Cond.methodLinkNest "HedgehogLots" (109 : Nat) ({ cls := "HedgehogLots$Slope", name := "<init>", desc := "()V" } : Jvm.MethodName) "HedgehogLots") ∈ lw_tbl := lw_at lw_m1 65 rfl
theorem q130 : (Jvm.Cond.fieldLinkNest "HedgehogLots" (184 : Nat) "HedgehogLots$Slope" "pegs" "I" "HedgehogLots") ∈ lw_tbl := lw_at lw_m1 71 rfl
theorem q132 : (Jvm.Cond.fieldLinkNest "HedgehogLots" (207 : Nat) "HedgehogLots$Slope" "peg" "[B" "HedgehogLots") ∈ lw_tbl := lw_at lw_m1 73 rfl
theorem q134 : (Jvm.Cond.fieldLinkNest "HedgehogLots" (70 : Nat) "HedgehogLots$Slope" "rag" "[B" "HedgehogLots") ∈ lw_tbl := lw_at lw_m1 75 rfl
theorem q137 : (Jvm.Cond.fieldLinkNest "HedgehogLots" (196 : Nat) "HedgehogLots$Slope" "slugs" "I" "HedgehogLots") ∈ lw_tbl := lw_at lw_m1 78 rfl
theorem q139 : (Jvm.Cond.fieldLinkNest "HedgehogLots" (210 : Nat) "HedgehogLots$Slope" "slug" "[B" "HedgehogLots") ∈ lw_tbl := lw_at lw_m1 80 rfl
theorem q142 : (Jvm.Cond.fieldLinkNest "HedgehogLots" (187 : Nat) "HedgehogLots$Slope" "hedgehogs" "I" "HedgehogLots") ∈ lw_tbl := lw_at lw_m1 83 rfl
theorem q144 : (Jvm.Cond.fieldLinkNest "HedgehogLots" (16 : Nat) "HedgehogLots$Slope" "hedgehog" "[B" "HedgehogLots") ∈ lw_tbl := lw_at lw_m1 85 rfl
theorem q147 : (Jvm.Cond.fieldLinkNest "HedgehogLots" (73 : Nat) "HedgehogLots$Slope" "suits" "I" "HedgehogLots") ∈ lw_tbl := lw_at lw_m1 88 rfl
theorem q150 : (Jvm.Cond.fieldLinkNest "HedgehogLots" (63 : Nat) "HedgehogLots$Slope" "suit" "[B" "HedgehogLots") ∈ lw_tbl := lw_at lw_m1 91 rfl
theorem q173 : (Jvm.Cond.classLink "HedgehogLots" (130 : Nat) "HedgehogLots$Sheet") ∈ lw_all := lw_g (lw_at lw_m1 114 rfl) rfl
theorem q176 : (Jvm.Cond.methodLinkNest "HedgehogLots" (136 : Nat) ({ cls := "HedgehogLots$Sheet", name := "<init>", desc := "()V" } : Jvm.MethodName) "HedgehogLots") ∈ lw_tbl := lw_at lw_m1 117 rfl
theorem q180 : (Jvm.Cond.fieldLinkNest "HedgehogLots" (312 : Nat) "HedgehogLots$Sheet" "row" "Ljava/lang/Object;" "HedgehogLots") ∈ lw_tbl := lw_at lw_m1 121 rfl
theorem q184 : (Jvm.Cond.fieldLink "HedgehogLots" (12 : Nat) "HedgehogLots" "kinds" "[LHedgehogLots$Plain;") ∈ lw_all := lw_g (lw_at lw_m1 125 rfl) rfl
theorem q185 : (Jvm.Cond.fieldLink "HedgehogLots" (110 : Nat) "HedgehogLots" "now" "LHedgehogLots$Slope;") ∈ lw_all := lw_g (lw_at lw_m1 126 rfl) rfl
theorem q186 : (Jvm.Cond.fieldLink "HedgehogLots" (114 : Nat) "HedgehogLots" "tried" "LHedgehogLots$Slope;") ∈ lw_all := lw_g (lw_at lw_m1 127 rfl) rfl
theorem q187 : (Jvm.Cond.fieldLink "HedgehogLots" (117 : Nat) "HedgehogLots" "images" "[LHedgehogLots$Slope;") ∈ lw_all := lw_g (lw_at lw_m1 128 rfl) rfl
theorem q188 : (Jvm.Cond.fieldLink "HedgehogLots" (167 : Nat) "HedgehogLots" "kept" "I") ∈ lw_all := lw_g (lw_at lw_m1 129 rfl) rfl
theorem q189 : (Jvm.Cond.fieldLink "HedgehogLots" (121 : Nat) "HedgehogLots" "seen" "[B") ∈ lw_all := lw_g (lw_at lw_m1 130 rfl) rfl
theorem q190 : (Jvm.Cond.fieldLink "HedgehogLots" (164 : Nat) "HedgehogLots" "seenMany" "I") ∈ lw_all := lw_g (lw_at lw_m1 131 rfl) rfl
theorem q191 : (Jvm.Cond.fieldLink "HedgehogLots" (40 : Nat) "HedgehogLots" "way" "[B") ∈ lw_all := lw_g (lw_at lw_m1 132 rfl) rfl
theorem q192 : (Jvm.Cond.fieldLink "HedgehogLots" (22 : Nat) "HedgehogLots" "rests" "I") ∈ lw_all := lw_g (lw_at lw_m1 133 rfl) rfl
theorem q193 : (Jvm.Cond.fieldLink "HedgehogLots" (26 : Nat) "HedgehogLots" "ended" "I") ∈ lw_all := lw_g (lw_at lw_m1 134 rfl) rfl
theorem q194 : (Jvm.Cond.fieldLink "HedgehogLots" (29 : Nat) "HedgehogLots" "meets" "I") ∈ lw_all := lw_g (lw_at lw_m1 135 rfl) rfl
theorem q195 : (Jvm.Cond.fieldLink "HedgehogLots" (32 : Nat) "HedgehogLots" "opens" "Z") ∈ lw_all := lw_g (lw_at lw_m1 136 rfl) rfl
theorem q197 : (Jvm.Cond.fieldLink "HedgehogLots" (124 : Nat) "HedgehogLots" "tape" "[B") ∈ lw_all := lw_g (lw_at lw_m1 138 rfl) rfl
theorem q198 : (Jvm.Cond.fieldLink "HedgehogLots" (143 : Nat) "HedgehogLots" "taped" "I") ∈ lw_all := lw_g (lw_at lw_m1 139 rfl) rfl
theorem q199 : (Jvm.Cond.fieldLink "HedgehogLots" (146 : Nat) "HedgehogLots" "fault" "I") ∈ lw_all := lw_g (lw_at lw_m1 140 rfl) rfl
theorem q200 : (Jvm.Cond.fieldLink "HedgehogLots" (243 : Nat) "HedgehogLots" "found" "I") ∈ lw_all := lw_g (lw_at lw_m1 141 rfl) rfl
theorem q201 : (Jvm.Cond.fieldLink "HedgehogLots" (246 : Nat) "HedgehogLots" "foundMany" "I") ∈ lw_all := lw_g (lw_at lw_m1 142 rfl) rfl
theorem q202 : (Jvm.Cond.fieldLink "HedgehogLots" (271 : Nat) "HedgehogLots" "winSum" "J") ∈ lw_all := lw_g (lw_at lw_m1 143 rfl) rfl
theorem q203 : (Jvm.Cond.fieldLink "HedgehogLots" (275 : Nat) "HedgehogLots" "meetSum" "J") ∈ lw_all := lw_g (lw_at lw_m1 144 rfl) rfl
theorem q204 : (Jvm.Cond.fieldLink "HedgehogLots" (278 : Nat) "HedgehogLots" "allWays" "J") ∈ lw_all := lw_g (lw_at lw_m1 145 rfl) rfl
theorem q205 : (Jvm.Cond.fieldLink "HedgehogLots" (127 : Nat) "HedgehogLots" "ways" "[B") ∈ lw_all := lw_g (lw_at lw_m1 146 rfl) rfl
theorem q206 : (Jvm.Cond.fieldLink "HedgehogLots" (132 : Nat) "HedgehogLots" "sheets" "[LHedgehogLots$Sheet;") ∈ lw_all := lw_g (lw_at lw_m1 147 rfl) rfl
theorem q207 : (Jvm.Cond.fieldLink "HedgehogLots" (337 : Nat) "HedgehogLots" "torn" "I") ∈ lw_all := lw_g (lw_at lw_m1 148 rfl) rfl
theorem q208 : (Jvm.Cond.laysFinal "HedgehogLots" "HedgehogLots" "kinds" "[LHedgehogLots$Plain;") ∈ lw_all := lw_g (lw_at lw_m1 149 rfl) rfl
theorem q209 : (Jvm.Cond.soleField "HedgehogLots" "kinds") ∈ lw_all := lw_g (lw_at lw_m1 150 rfl) rfl
theorem q210 : (Jvm.Cond.laysFinal "HedgehogLots" "HedgehogLots" "now" "LHedgehogLots$Slope;") ∈ lw_all := lw_g (lw_at lw_m1 151 rfl) rfl
theorem q211 : (Jvm.Cond.soleField "HedgehogLots" "now") ∈ lw_all := lw_g (lw_at lw_m1 152 rfl) rfl
theorem q212 : (Jvm.Cond.laysFinal "HedgehogLots" "HedgehogLots" "tried" "LHedgehogLots$Slope;") ∈ lw_all := lw_g (lw_at lw_m1 153 rfl) rfl
theorem q213 : (Jvm.Cond.soleField "HedgehogLots" "tried") ∈ lw_all := lw_g (lw_at lw_m1 154 rfl) rfl
theorem q214 : (Jvm.Cond.laysFinal "HedgehogLots" "HedgehogLots" "images" "[LHedgehogLots$Slope;") ∈ lw_all := lw_g (lw_at lw_m1 155 rfl) rfl
theorem q215 : (Jvm.Cond.soleField "HedgehogLots" "images") ∈ lw_all := lw_g (lw_at lw_m1 156 rfl) rfl
theorem q216 : (Jvm.Cond.lays "HedgehogLots" "HedgehogLots" "kept" "I") ∈ lw_all := lw_g (lw_at lw_m1 157 rfl) rfl
theorem q217 : (Jvm.Cond.soleField "HedgehogLots" "kept") ∈ lw_all := lw_g (lw_at lw_m1 158 rfl) rfl
theorem q218 : (Jvm.Cond.laysFinal "HedgehogLots" "HedgehogLots" "seen" "[B") ∈ lw_all := lw_g (lw_at lw_m1 159 rfl) rfl
theorem q219 : (Jvm.Cond.soleField "HedgehogLots" "seen") ∈ lw_all := lw_g (lw_at lw_m1 160 rfl) rfl
theorem q220 : (Jvm.Cond.lays "HedgehogLots" "HedgehogLots" "seenMany" "I") ∈ lw_all := lw_g (lw_at lw_m1 161 rfl) rfl
theorem q221 : (Jvm.Cond.soleField "HedgehogLots" "seenMany") ∈ lw_all := lw_g (lw_at lw_m1 162 rfl) rfl
theorem q222 : (Jvm.Cond.laysFinal "HedgehogLots" "HedgehogLots" "way" "[B") ∈ lw_all := lw_g (lw_at lw_m1 163 rfl) rfl
theorem q223 : (Jvm.Cond.soleField "HedgehogLots" "way") ∈ lw_all := lw_g (lw_at lw_m1 164 rfl) rfl
theorem q224 : (Jvm.Cond.lays "HedgehogLots" "HedgehogLots" "rests" "I") ∈ lw_all := lw_g (lw_at lw_m1 165 rfl) rfl
theorem q225 : (Jvm.Cond.soleField "HedgehogLots" "rests") ∈ lw_all := lw_g (lw_at lw_m1 166 rfl) rfl
theorem q226 : (Jvm.Cond.lays "HedgehogLots" "HedgehogLots" "ended" "I") ∈ lw_all := lw_g (lw_at lw_m1 167 rfl) rfl
theorem q227 : (Jvm.Cond.soleField "HedgehogLots" "ended") ∈ lw_all := lw_g (lw_at lw_m1 168 rfl) rfl
theorem q228 : (Jvm.Cond.lays "HedgehogLots" "HedgehogLots" "meets" "I") ∈ lw_all := lw_g (lw_at lw_m1 169 rfl) rfl
theorem q229 : (Jvm.Cond.soleField "HedgehogLots" "meets") ∈ lw_all := lw_g (lw_at lw_m1 170 rfl) rfl
theorem q230 : (Jvm.Cond.lays "HedgehogLots" "HedgehogLots" "opens" "Z") ∈ lw_all := lw_g (lw_at lw_m1 171 rfl) rfl
theorem q231 : (Jvm.Cond.soleField "HedgehogLots" "opens") ∈ lw_all := lw_g (lw_at lw_m1 172 rfl) rfl
theorem q232 : (Jvm.Cond.laysFinal "HedgehogLots" "HedgehogLots" "tape" "[B") ∈ lw_all := lw_g (lw_at lw_m1 173 rfl) rfl
theorem q233 : (Jvm.Cond.soleField "HedgehogLots" "tape") ∈ lw_all := lw_g (lw_at lw_m1 174 rfl) rfl
theorem q234 : (Jvm.Cond.lays "HedgehogLots" "HedgehogLots" "taped" "I") ∈ lw_all := lw_g (lw_at lw_m1 175 rfl) rfl
theorem q235 : (Jvm.Cond.soleField "HedgehogLots" "taped") ∈ lw_all := lw_g (lw_at lw_m1 176 rfl) rfl
theorem q236 : (Jvm.Cond.lays "HedgehogLots" "HedgehogLots" "fault" "I") ∈ lw_all := lw_g (lw_at lw_m1 177 rfl) rfl
theorem q237 : (Jvm.Cond.soleField "HedgehogLots" "fault") ∈ lw_all := lw_g (lw_at lw_m1 178 rfl) rfl
theorem q238 : (Jvm.Cond.lays "HedgehogLots" "HedgehogLots" "found" "I") ∈ lw_all := lw_g (lw_at lw_m1 179 rfl) rfl
theorem q239 : (Jvm.Cond.soleField "HedgehogLots" "found") ∈ lw_all := lw_g (lw_at lw_m1 180 rfl) rfl
theorem q240 : (Jvm.Cond.lays "HedgehogLots" "HedgehogLots" "foundMany" "I") ∈ lw_all := lw_g (lw_at lw_m1 181 rfl) rfl
theorem q241 : (Jvm.Cond.soleField "HedgehogLots" "foundMany") ∈ lw_all := lw_g (lw_at lw_m1 182 rfl) rfl
theorem q242 : (Jvm.Cond.lays "HedgehogLots" "HedgehogLots" "winSum" "J") ∈ lw_all := lw_g (lw_at lw_m1 183 rfl) rfl
theorem q243 : (Jvm.Cond.soleField "HedgehogLots" "winSum") ∈ lw_all := lw_g (lw_at lw_m1 184 rfl) rfl
theorem q244 : (Jvm.Cond.lays "HedgehogLots" "HedgehogLots" "meetSum" "J") ∈ lw_all := lw_g (lw_at lw_m1 185 rfl) rfl
theorem q245 : (Jvm.Cond.soleField "HedgehogLots" "meetSum") ∈ lw_all := lw_g (lw_at lw_m1 186 rfl) rfl
theorem q246 : (Jvm.Cond.lays "HedgehogLots" "HedgehogLots" "allWays" "J") ∈ lw_all := lw_g (lw_at lw_m1 187 rfl) rfl
theorem q247 : (Jvm.Cond.soleField "HedgehogLots" "allWays") ∈ lw_all := lw_g (lw_at lw_m1 188 rfl) rfl
theorem q248 : (Jvm.Cond.laysFinal "HedgehogLots" "HedgehogLots" "ways" "[B") ∈ lw_all := lw_g (lw_at lw_m1 189 rfl) rfl
theorem q249 : (Jvm.Cond.soleField "HedgehogLots" "ways") ∈ lw_all := lw_g (lw_at lw_m1 190 rfl) rfl
theorem q250 : (Jvm.Cond.laysFinal "HedgehogLots" "HedgehogLots" "sheets" "[LHedgehogLots$Sheet;") ∈ lw_all := lw_g (lw_at lw_m1 191 rfl) rfl
theorem q251 : (Jvm.Cond.soleField "HedgehogLots" "sheets") ∈ lw_all := lw_g (lw_at lw_m1 192 rfl) rfl
theorem q252 : (Jvm.Cond.lays "HedgehogLots" "HedgehogLots" "torn" "I") ∈ lw_all := lw_g (lw_at lw_m1 193 rfl) rfl
theorem q253 : (Jvm.Cond.soleField "HedgehogLots" "torn") ∈ lw_all := lw_g (lw_at lw_m1 194 rfl) rfl
theorem q254 : (Jvm.Cond.superclass "HedgehogLots" "java/lang/Object") ∈ lw_all := lw_g (lw_at lw_m1 195 rfl) rfl
theorem q256 : (Jvm.Cond.instanceMethod ({ cls := "HedgehogLots", name := "feed", desc := "(I)I" } : Jvm.MethodName)) ∈ lw_all := lw_g (lw_at lw_m1 197 rfl) rfl
theorem q257 : (Jvm.Cond.selects "HedgehogLots" ({ cls := "HedgehogLots", name := "feed", desc := "(I)I" } : Jvm.MethodName) ({ cls := "HedgehogLots", name := "feed", desc := "(I)I" } : Jvm.MethodName)) ∈ lw_all := lw_g (lw_at lw_m1 198 rfl) rfl
theorem q258 : (Jvm.Cond.code ({ cls := "HedgehogLots", name := "feed", desc := "(I)I" } : Jvm.MethodName) prog_1_method_11_code (2 : Nat) (Option.some Jvm.ClassFile.FieldType.int)) ∈ lw_all := lw_g (lw_at lw_m1 199 rfl) rfl
theorem q259 : (Jvm.Cond.constantLong "HedgehogLots" (137 : Nat) (127 : Int64)) ∈ lw_all := lw_g (lw_at lw_m1 200 rfl) rfl
theorem q260 : (Jvm.Cond.methodLink "HedgehogLots" (139 : Nat) ({ cls := "HedgehogLots", name := "in", desc := "(JJJ)Z" } : Jvm.MethodName)) ∈ lw_all := lw_g (lw_at lw_m1 201 rfl) rfl
theorem q261 : (Jvm.Cond.static ({ cls := "HedgehogLots", name := "in", desc := "(JJJ)Z" } : Jvm.MethodName)) ∈ lw_all := lw_g (lw_at lw_m1 202 rfl) rfl
theorem q262 : (Jvm.Cond.code ({ cls := "HedgehogLots", name := "in", desc := "(JJJ)Z" } : Jvm.MethodName) prog_1_method_1_code (6 : Nat) (Option.some Jvm.ClassFile.FieldType.boolean)) ∈ lw_all := lw_g (lw_at lw_m1 203 rfl) rfl
theorem q264 : (Jvm.Cond.instanceMethod ({ cls := "HedgehogLots", name := "end", desc := "(I)I" } : Jvm.MethodName)) ∈ lw_all := lw_g (lw_at lw_m1 205 rfl) rfl
theorem q265 : (Jvm.Cond.selects "HedgehogLots" ({ cls := "HedgehogLots", name := "end", desc := "(I)I" } : Jvm.MethodName) ({ cls := "HedgehogLots", name := "end", desc := "(I)I" } : Jvm.MethodName)) ∈ lw_all := lw_g (lw_at lw_m1 206 rfl) rfl
theorem q266 : (Jvm.Cond.code ({ cls := "HedgehogLots", name := "end", desc := "(I)I" } : Jvm.MethodName) prog_1_method_12_code (3 : Nat) (Option.some Jvm.ClassFile.FieldType.int)) ∈ lw_all := lw_g (lw_at lw_m1 207 rfl) rfl
theorem q268 : (Jvm.Cond.instanceMethod ({ cls := "HedgehogLots", name := "text", desc := "()I" } : Jvm.MethodName)) ∈ lw_all := lw_g (lw_at lw_m1 209 rfl) rfl
theorem q269 : (Jvm.Cond.selects "HedgehogLots" ({ cls := "HedgehogLots", name := "text", desc := "()I" } : Jvm.MethodName) ({ cls := "HedgehogLots", name := "text", desc := "()I" } : Jvm.MethodName)) ∈ lw_all := lw_g (lw_at lw_m1 210 rfl) rfl
theorem q270 : (Jvm.Cond.codeWith ({ cls := "HedgehogLots", name := "text", desc := "()I" } : Jvm.MethodName) prog_1_method_13_code (4 : Nat) (Option.some Jvm.ClassFile.FieldType.int) [((15 : Nat), (52 : Nat), (53 : Nat), (170 : Nat))]) ∈ lw_all := lw_g (lw_at lw_m1 211 rfl) rfl
theorem q271 : (Jvm.Cond.classLink "HedgehogLots" (170 : Nat) "HedgehogLots$Fault") ∈ lw_all := lw_g (lw_at lw_m1 212 rfl) rfl
theorem q272 : (Jvm.Cond.classLink "HedgehogLots" (149 : Nat) "HedgehogLots$Reader") ∈ lw_all := lw_g (lw_at lw_m1 213 rfl) rfl
theorem q274 : (Jvm.Cond.methodLink "HedgehogLots" (151 : Nat) ({ cls := "HedgehogLots$Reader", name := "<init>", desc := "(LHedgehogLots;I)V" } : Jvm.MethodName)) ∈ lw_all := lw_g (lw_at lw_m1 215 rfl) rfl
theorem q356 : (Jvm.Cond.fieldLinkNest "HedgehogLots" (172 : Nat) "HedgehogLots$Fault" "code" "I" "HedgehogLots") ∈ lw_tbl := lw_at lw_m2 57 rfl
theorem q358 : (Jvm.Cond.fieldLinkNest "HedgehogLots" (175 : Nat) "HedgehogLots$Fault" "place" "I" "HedgehogLots") ∈ lw_tbl := lw_at lw_m2 59 rfl
theorem q378 : (Jvm.Cond.fieldLinkNest "HedgehogLots" (157 : Nat) "HedgehogLots$Reader" "made" "LHedgehogLots$Slope;" "HedgehogLots") ∈ lw_tbl := lw_at lw_m2 79 rfl
theorem q402 : (Jvm.Cond.methodLink "HedgehogLots" (154 : Nat) ({ cls := "HedgehogLots$Reader", name := "lines", desc := "()I" } : Jvm.MethodName)) ∈ lw_all := lw_g (lw_at lw_m2 103 rfl) rfl
theorem q486 : (Jvm.Cond.static ({ cls := "HedgehogLots", name := "isCell", desc := "(I)Z" } : Jvm.MethodName)) ∈ lw_all := lw_g (lw_at lw_m2 187 rfl) rfl
theorem q487 : (Jvm.Cond.code ({ cls := "HedgehogLots", name := "isCell", desc := "(I)Z" } : Jvm.MethodName) prog_1_method_15_code (1 : Nat) (Option.some Jvm.ClassFile.FieldType.boolean)) ∈ lw_all := lw_g (lw_at lw_m2 188 rfl) rfl
theorem q488 : (Jvm.Cond.constantLong "HedgehogLots" (178 : Nat) (99 : Int64)) ∈ lw_all := lw_g (lw_at lw_m2 189 rfl) rfl
theorem q521 : (Jvm.Cond.methodLink "HedgehogLots" (160 : Nat) ({ cls := "HedgehogLots$Slope", name := "as", desc := "(LHedgehogLots$Slope;)V" } : Jvm.MethodName)) ∈ lw_all := lw_g (lw_at lw_m2 222 rfl) rfl
theorem q529 : (Jvm.Cond.instanceMethod ({ cls := "HedgehogLots", name := "fault", desc := "()I" } : Jvm.MethodName)) ∈ lw_all := lw_g (lw_at lw_m2 230 rfl) rfl
theorem q530 : (Jvm.Cond.selects "HedgehogLots" ({ cls := "HedgehogLots", name := "fault", desc := "()I" } : Jvm.MethodName) ({ cls := "HedgehogLots", name := "fault", desc := "()I" } : Jvm.MethodName)) ∈ lw_all := lw_g (lw_at lw_m2 231 rfl) rfl
theorem q531 : (Jvm.Cond.code ({ cls := "HedgehogLots", name := "fault", desc := "()I" } : Jvm.MethodName) prog_1_method_14_code (1 : Nat) (Option.some Jvm.ClassFile.FieldType.int)) ∈ lw_all := lw_g (lw_at lw_m2 232 rfl) rfl
theorem q533 : (Jvm.Cond.instanceMethod ({ cls := "HedgehogLots", name := "rule", desc := "(I)I" } : Jvm.MethodName)) ∈ lw_all := lw_g (lw_at lw_m2 234 rfl) rfl
theorem q534 : (Jvm.Cond.selects "HedgehogLots" ({ cls := "HedgehogLots", name := "rule", desc := "(I)I" } : Jvm.MethodName) ({ cls := "HedgehogLots", name := "rule", desc := "(I)I" } : Jvm.MethodName)) ∈ lw_all := lw_g (lw_at lw_m2 235 rfl) rfl
theorem q535 : (Jvm.Cond.code ({ cls := "HedgehogLots", name := "rule", desc := "(I)I" } : Jvm.MethodName) prog_1_method_22_code (4 : Nat) (Option.some Jvm.ClassFile.FieldType.int)) ∈ lw_all := lw_g (lw_at lw_m2 236 rfl) rfl
theorem q536 : (Jvm.Cond.methodLink "HedgehogLots" (76 : Nat) ({ cls := "HedgehogLots", name := "goes", desc := "(LHedgehogLots$Slope;I)V" } : Jvm.MethodName)) ∈ lw_all := lw_g (lw_at lw_m2 237 rfl) rfl
theorem q537 : (Jvm.Cond.privateMethod ({ cls := "HedgehogLots", name := "goes", desc := "(LHedgehogLots$Slope;I)V" } : Jvm.MethodName)) ∈ lw_tbl := lw_at lw_m2 238 rfl
theorem q538 : (Jvm.Cond.instanceMethod ({ cls := "HedgehogLots", name := "goes", desc := "(LHedgehogLots$Slope;I)V" } : Jvm.MethodName)) ∈ lw_all := lw_g (lw_at lw_m2 239 rfl) rfl
theorem q539 : (Jvm.Cond.code ({ cls := "HedgehogLots", name := "goes", desc := "(LHedgehogLots$Slope;I)V" } : Jvm.MethodName) prog_1_method_5_code (3 : Nat) (Option.none : Option Jvm.ClassFile.FieldType)) ∈ lw_all := lw_g (lw_at lw_m3 0 rfl) rfl
theorem q540 : (Jvm.Cond.methodLink "HedgehogLots" (66 : Nat) ({ cls := "HedgehogLots", name := "runs", desc := "(LHedgehogLots$Slope;III)V" } : Jvm.MethodName)) ∈ lw_all := lw_g (lw_at lw_m3 1 rfl) rfl
theorem q541 : (Jvm.Cond.privateMethod ({ cls := "HedgehogLots", name := "runs", desc := "(LHedgehogLots$Slope;III)V" } : Jvm.MethodName)) ∈ lw_tbl := lw_at lw_m3 2 rfl
theorem q542 : (Jvm.Cond.instanceMethod ({ cls := "HedgehogLots", name := "runs", desc := "(LHedgehogLots$Slope;III)V" } : Jvm.MethodName)) ∈ lw_all := lw_g (lw_at lw_m3 3 rfl) rfl
theorem q543 : (Jvm.Cond.code ({ cls := "HedgehogLots", name := "runs", desc := "(LHedgehogLots$Slope;III)V" } : Jvm.MethodName) prog_1_method_4_code (13 : Nat) (Option.none : Option Jvm.ClassFile.FieldType)) ∈ lw_all := lw_g (lw_at lw_m3 4 rfl) rfl
theorem q544 : (Jvm.Cond.methodLink "HedgehogLots" (36 : Nat) ({ cls := "HedgehogLots$Slope", name := "pegIn", desc := "(I)I" } : Jvm.MethodName)) ∈ lw_all := lw_g (lw_at lw_m3 5 rfl) rfl
theorem q545 : (Jvm.Cond.methodLink "HedgehogLots" (43 : Nat) ({ cls := "HedgehogLots$Slope", name := "isSlugIn", desc := "(I)Z" } : Jvm.MethodName)) ∈ lw_all := lw_g (lw_at lw_m3 6 rfl) rfl
theorem q546 : (Jvm.Cond.methodLink "HedgehogLots" (47 : Nat) ({ cls := "HedgehogLots$Plain", name := "loses", desc := "()I" } : Jvm.MethodName)) ∈ lw_all := lw_g (lw_at lw_m3 7 rfl) rfl
theorem q563 : (Jvm.Cond.methodLink "HedgehogLots" (53 : Nat) ({ cls := "HedgehogLots$Plain", name := "turns", desc := "(I)I" } : Jvm.MethodName)) ∈ lw_all := lw_g (lw_at lw_m3 24 rfl) rfl
theorem q583 : (Jvm.Cond.methodLink "HedgehogLots" (56 : Nat) ({ cls := "HedgehogLots", name := "has", desc := "(II)Z" } : Jvm.MethodName)) ∈ lw_all := lw_g (lw_at lw_m3 44 rfl) rfl
theorem q584 : (Jvm.Cond.static ({ cls := "HedgehogLots", name := "has", desc := "(II)Z" } : Jvm.MethodName)) ∈ lw_all := lw_g (lw_at lw_m3 45 rfl) rfl
theorem q585 : (Jvm.Cond.code ({ cls := "HedgehogLots", name := "has", desc := "(II)Z" } : Jvm.MethodName) prog_1_method_2_code (2 : Nat) (Option.some Jvm.ClassFile.FieldType.boolean)) ∈ lw_all := lw_g (lw_at lw_m3 46 rfl) rfl
theorem q586 : (Jvm.Cond.methodLink "HedgehogLots" (60 : Nat) ({ cls := "HedgehogLots", name := "onSlope", desc := "(I)I" } : Jvm.MethodName)) ∈ lw_all := lw_g (lw_at lw_m3 47 rfl) rfl
theorem q587 : (Jvm.Cond.static ({ cls := "HedgehogLots", name := "onSlope", desc := "(I)I" } : Jvm.MethodName)) ∈ lw_all := lw_g (lw_at lw_m3 48 rfl) rfl
theorem q588 : (Jvm.Cond.code ({ cls := "HedgehogLots", name := "onSlope", desc := "(I)I" } : Jvm.MethodName) prog_1_method_3_code (1 : Nat) (Option.some Jvm.ClassFile.FieldType.int)) ∈ lw_all := lw_g (lw_at lw_m3 49 rfl) rfl
theorem q589 : (Jvm.Cond.methodLink "HedgehogLots" (3 : Nat) ({ cls := "java/lang/Math", name := "min", desc := "(II)I" } : Jvm.MethodName)) ∈ lw_all := lw_g (lw_at lw_m3 50 rfl) rfl
theorem q592 : (Jvm.Cond.methodLink "HedgehogLots" (9 : Nat) ({ cls := "java/lang/Math", name := "max", desc := "(II)I" } : Jvm.MethodName)) ∈ lw_all := lw_g (lw_at lw_m3 53 rfl) rfl
theorem q593 : (Jvm.Cond.methodLink "HedgehogLots" (199 : Nat) ({ cls := "HedgehogLots", name := "wonByAny", desc := "(LHedgehogLots$Slope;)I" } : Jvm.MethodName)) ∈ lw_all := lw_g (lw_at lw_m3 54 rfl) rfl
theorem q594 : (Jvm.Cond.privateMethod ({ cls := "HedgehogLots", name := "wonByAny", desc := "(LHedgehogLots$Slope;)I" } : Jvm.MethodName)) ∈ lw_tbl := lw_at lw_m3 55 rfl
theorem q595 : (Jvm.Cond.instanceMethod ({ cls := "HedgehogLots", name := "wonByAny", desc := "(LHedgehogLots$Slope;)I" } : Jvm.MethodName)) ∈ lw_all := lw_g (lw_at lw_m3 56 rfl) rfl
theorem q596 : (Jvm.Cond.code ({ cls := "HedgehogLots", name := "wonByAny", desc := "(LHedgehogLots$Slope;)I" } : Jvm.MethodName) prog_1_method_9_code (4 : Nat) (Option.some Jvm.ClassFile.FieldType.int)) ∈ lw_all := lw_g (lw_at lw_m3 57 rfl) rfl
theorem q597 : (Jvm.Cond.methodLink "HedgehogLots" (84 : Nat) ({ cls := "HedgehogLots", name := "won", desc := "(LHedgehogLots$Slope;I)I" } : Jvm.MethodName)) ∈ lw_all := lw_g (lw_at lw_m3 58 rfl) rfl
theorem q598 : (Jvm.Cond.privateMethod ({ cls := "HedgehogLots", name := "won", desc := "(LHedgehogLots$Slope;I)I" } : Jvm.MethodName)) ∈ lw_tbl := lw_at lw_m3 59 rfl
theorem q599 : (Jvm.Cond.instanceMethod ({ cls := "HedgehogLots", name := "won", desc := "(LHedgehogLots$Slope;I)I" } : Jvm.MethodName)) ∈ lw_all := lw_g (lw_at lw_m3 60 rfl) rfl
theorem q600 : (Jvm.Cond.code ({ cls := "HedgehogLots", name := "won", desc := "(LHedgehogLots$Slope;I)I" } : Jvm.MethodName) prog_1_method_7_code (5 : Nat) (Option.some Jvm.ClassFile.FieldType.int)) ∈ lw_all := lw_g (lw_at lw_m3 61 rfl) rfl
theorem q601 : (Jvm.Cond.methodLink "HedgehogLots" (80 : Nat) ({ cls := "HedgehogLots", name := "winner", desc := "(LHedgehogLots$Slope;)I" } : Jvm.MethodName)) ∈ lw_all := lw_g (lw_at lw_m3 62 rfl) rfl
theorem q602 : (Jvm.Cond.privateMethod ({ cls := "HedgehogLots", name := "winner", desc := "(LHedgehogLots$Slope;)I" } : Jvm.MethodName)) ∈ lw_tbl := lw_at lw_m3 63 rfl
theorem q603 : (Jvm.Cond.instanceMethod ({ cls := "HedgehogLots", name := "winner", desc := "(LHedgehogLots$Slope;)I" } : Jvm.MethodName)) ∈ lw_all := lw_g (lw_at lw_m3 64 rfl) rfl
theorem q604 : (Jvm.Cond.code ({ cls := "HedgehogLots", name := "winner", desc := "(LHedgehogLots$Slope;)I" } : Jvm.MethodName) prog_1_method_6_code (2 : Nat) (Option.some Jvm.ClassFile.FieldType.int)) ∈ lw_all := lw_g (lw_at lw_m3 65 rfl) rfl
theorem q606 : (Jvm.Cond.instanceMethod ({ cls := "HedgehogLots", name := "peg", desc := "(II)I" } : Jvm.MethodName)) ∈ lw_all := lw_g (lw_at lw_m3 67 rfl) rfl
theorem q607 : (Jvm.Cond.selects "HedgehogLots" ({ cls := "HedgehogLots", name := "peg", desc := "(II)I" } : Jvm.MethodName) ({ cls := "HedgehogLots", name := "peg", desc := "(II)I" } : Jvm.MethodName)) ∈ lw_all := lw_g (lw_at lw_m3 68 rfl) rfl
theorem q608 : (Jvm.Cond.code ({ cls := "HedgehogLots", name := "peg", desc := "(II)I" } : Jvm.MethodName) prog_1_method_23_code (5 : Nat) (Option.some Jvm.ClassFile.FieldType.int)) ∈ lw_all := lw_g (lw_at lw_m3 69 rfl) rfl
theorem q609 : (Jvm.Cond.methodLink "HedgehogLots" (202 : Nat) ({ cls := "HedgehogLots", name := "isPeg", desc := "(I)Z" } : Jvm.MethodName)) ∈ lw_all := lw_g (lw_at lw_m3 70 rfl) rfl
theorem q610 : (Jvm.Cond.privateMethod ({ cls := "HedgehogLots", name := "isPeg", desc := "(I)Z" } : Jvm.MethodName)) ∈ lw_tbl := lw_at lw_m3 71 rfl
theorem q611 : (Jvm.Cond.instanceMethod ({ cls := "HedgehogLots", name := "isPeg", desc := "(I)Z" } : Jvm.MethodName)) ∈ lw_all := lw_g (lw_at lw_m3 72 rfl) rfl
theorem q612 : (Jvm.Cond.code ({ cls := "HedgehogLots", name := "isPeg", desc := "(I)Z" } : Jvm.MethodName) prog_1_method_18_code (2 : Nat) (Option.some Jvm.ClassFile.FieldType.boolean)) ∈ lw_all := lw_g (lw_at lw_m3 73 rfl) rfl
theorem q613 : (Jvm.Cond.constantLong "HedgehogLots" (205 : Nat) (2 : Int64)) ∈ lw_all := lw_g (lw_at lw_m3 74 rfl) rfl
theorem q615 : (Jvm.Cond.instanceMethod ({ cls := "HedgehogLots", name := "slug", desc := "(I)I" } : Jvm.MethodName)) ∈ lw_all := lw_g (lw_at lw_m3 76 rfl) rfl
theorem q616 : (Jvm.Cond.selects "HedgehogLots" ({ cls := "HedgehogLots", name := "slug", desc := "(I)I" } : Jvm.MethodName) ({ cls := "HedgehogLots", name := "slug", desc := "(I)I" } : Jvm.MethodName)) ∈ lw_all := lw_g (lw_at lw_m3 77 rfl) rfl
theorem q617 : (Jvm.Cond.code ({ cls := "HedgehogLots", name := "slug", desc := "(I)I" } : Jvm.MethodName) prog_1_method_24_code (2 : Nat) (Option.some Jvm.ClassFile.FieldType.int)) ∈ lw_all := lw_g (lw_at lw_m3 78 rfl) rfl
theorem q619 : (Jvm.Cond.instanceMethod ({ cls := "HedgehogLots", name := "hedgehog", desc := "(II)I" } : Jvm.MethodName)) ∈ lw_all := lw_g (lw_at lw_m3 80 rfl) rfl
theorem q620 : (Jvm.Cond.selects "HedgehogLots" ({ cls := "HedgehogLots", name := "hedgehog", desc := "(II)I" } : Jvm.MethodName) ({ cls := "HedgehogLots", name := "hedgehog", desc := "(II)I" } : Jvm.MethodName)) ∈ lw_all := lw_g (lw_at lw_m3 81 rfl) rfl
theorem q621 : (Jvm.Cond.code ({ cls := "HedgehogLots", name := "hedgehog", desc := "(II)I" } : Jvm.MethodName) prog_1_method_25_code (5 : Nat) (Option.some Jvm.ClassFile.FieldType.int)) ∈ lw_all := lw_g (lw_at lw_m3 82 rfl) rfl
theorem q622 : (Jvm.Cond.methodLink "HedgehogLots" (190 : Nat) ({ cls := "HedgehogLots", name := "isHedgehog", desc := "(I)Z" } : Jvm.MethodName)) ∈ lw_all := lw_g (lw_at lw_m3 83 rfl) rfl
theorem q623 : (Jvm.Cond.privateMethod ({ cls := "HedgehogLots", name := "isHedgehog", desc := "(I)Z" } : Jvm.MethodName)) ∈ lw_tbl := lw_at lw_m3 84 rfl
theorem q624 : (Jvm.Cond.instanceMethod ({ cls := "HedgehogLots", name := "isHedgehog", desc := "(I)Z" } : Jvm.MethodName)) ∈ lw_all := lw_g (lw_at lw_m3 85 rfl) rfl
theorem q625 : (Jvm.Cond.code ({ cls := "HedgehogLots", name := "isHedgehog", desc := "(I)Z" } : Jvm.MethodName) prog_1_method_19_code (2 : Nat) (Option.some Jvm.ClassFile.FieldType.boolean)) ∈ lw_all := lw_g (lw_at lw_m3 86 rfl) rfl
theorem q626 : (Jvm.Cond.constantLong "HedgehogLots" (182 : Nat) (3 : Int64)) ∈ lw_all := lw_g (lw_at lw_m3 87 rfl) rfl
theorem q628 : (Jvm.Cond.instanceMethod ({ cls := "HedgehogLots", name := "suit", desc := "(II)I" } : Jvm.MethodName)) ∈ lw_all := lw_g (lw_at lw_m3 89 rfl) rfl
theorem q629 : (Jvm.Cond.selects "HedgehogLots" ({ cls := "HedgehogLots", name := "suit", desc := "(II)I" } : Jvm.MethodName) ({ cls := "HedgehogLots", name := "suit", desc := "(II)I" } : Jvm.MethodName)) ∈ lw_all := lw_g (lw_at lw_m3 90 rfl) rfl
theorem q630 : (Jvm.Cond.code ({ cls := "HedgehogLots", name := "suit", desc := "(II)I" } : Jvm.MethodName) prog_1_method_26_code (3 : Nat) (Option.some Jvm.ClassFile.FieldType.int)) ∈ lw_all := lw_g (lw_at lw_m3 91 rfl) rfl
theorem q632 : (Jvm.Cond.instanceMethod ({ cls := "HedgehogLots", name := "shift", desc := "(II)I" } : Jvm.MethodName)) ∈ lw_all := lw_g (lw_at lw_m3 93 rfl) rfl
theorem q633 : (Jvm.Cond.selects "HedgehogLots" ({ cls := "HedgehogLots", name := "shift", desc := "(II)I" } : Jvm.MethodName) ({ cls := "HedgehogLots", name := "shift", desc := "(II)I" } : Jvm.MethodName)) ∈ lw_all := lw_g (lw_at lw_m3 94 rfl) rfl
theorem q634 : (Jvm.Cond.code ({ cls := "HedgehogLots", name := "shift", desc := "(II)I" } : Jvm.MethodName) prog_1_method_27_code (4 : Nat) (Option.some Jvm.ClassFile.FieldType.int)) ∈ lw_all := lw_g (lw_at lw_m3 95 rfl) rfl
theorem q635 : (Jvm.Cond.methodLink "HedgehogLots" (213 : Nat) ({ cls := "HedgehogLots", name := "isCell", desc := "(I)Z" } : Jvm.MethodName)) ∈ lw_all := lw_g (lw_at lw_m3 96 rfl) rfl
theorem q636 : (Jvm.Cond.methodLink "HedgehogLots" (216 : Nat) ({ cls := "HedgehogLots$Slope", name := "isFree", desc := "(I)Z" } : Jvm.MethodName)) ∈ lw_all := lw_g (lw_at lw_m3 97 rfl) rfl
theorem q638 : (Jvm.Cond.instanceMethod ({ cls := "HedgehogLots", name := "rag", desc := "(II)I" } : Jvm.MethodName)) ∈ lw_all := lw_g (lw_at lw_m3 99 rfl) rfl
theorem q639 : (Jvm.Cond.selects "HedgehogLots" ({ cls := "HedgehogLots", name := "rag", desc := "(II)I" } : Jvm.MethodName) ({ cls := "HedgehogLots", name := "rag", desc := "(II)I" } : Jvm.MethodName)) ∈ lw_all := lw_g (lw_at lw_m3 100 rfl) rfl
theorem q640 : (Jvm.Cond.code ({ cls := "HedgehogLots", name := "rag", desc := "(II)I" } : Jvm.MethodName) prog_1_method_28_code (4 : Nat) (Option.some Jvm.ClassFile.FieldType.int)) ∈ lw_all := lw_g (lw_at lw_m3 101 rfl) rfl
theorem q641 : (Jvm.Cond.methodLink "HedgehogLots" (219 : Nat) ({ cls := "HedgehogLots", name := "isRag", desc := "(I)Z" } : Jvm.MethodName)) ∈ lw_all := lw_g (lw_at lw_m3 102 rfl) rfl
theorem q642 : (Jvm.Cond.static ({ cls := "HedgehogLots", name := "isRag", desc := "(I)Z" } : Jvm.MethodName)) ∈ lw_all := lw_g (lw_at lw_m3 103 rfl) rfl
theorem q643 : (Jvm.Cond.code ({ cls := "HedgehogLots", name := "isRag", desc := "(I)Z" } : Jvm.MethodName) prog_1_method_17_code (1 : Nat) (Option.some Jvm.ClassFile.FieldType.boolean)) ∈ lw_all := lw_g (lw_at lw_m3 104 rfl) rfl
theorem q645 : (Jvm.Cond.instanceMethod ({ cls := "HedgehogLots", name := "alter", desc := "(III)I" } : Jvm.MethodName)) ∈ lw_all := lw_g (lw_at lw_m3 106 rfl) rfl
theorem q646 : (Jvm.Cond.selects "HedgehogLots" ({ cls := "HedgehogLots", name := "alter", desc := "(III)I" } : Jvm.MethodName) ({ cls := "HedgehogLots", name := "alter", desc := "(III)I" } : Jvm.MethodName)) ∈ lw_all := lw_g (lw_at lw_m3 107 rfl) rfl
theorem q647 : (Jvm.Cond.code ({ cls := "HedgehogLots", name := "alter", desc := "(III)I" } : Jvm.MethodName) prog_1_method_29_code (6 : Nat) (Option.some Jvm.ClassFile.FieldType.int)) ∈ lw_all := lw_g (lw_at lw_m3 108 rfl) rfl
theorem q648 : (Jvm.Cond.constantLong "HedgehogLots" (222 : Nat) (9 : Int64)) ∈ lw_all := lw_g (lw_at lw_m3 109 rfl) rfl
theorem q650 : (Jvm.Cond.instanceMethod ({ cls := "HedgehogLots", name := "drive", desc := "(II)I" } : Jvm.MethodName)) ∈ lw_all := lw_g (lw_at lw_m3 111 rfl) rfl
theorem q651 : (Jvm.Cond.selects "HedgehogLots" ({ cls := "HedgehogLots", name := "drive", desc := "(II)I" } : Jvm.MethodName) ({ cls := "HedgehogLots", name := "drive", desc := "(II)I" } : Jvm.MethodName)) ∈ lw_all := lw_g (lw_at lw_m3 112 rfl) rfl
theorem q652 : (Jvm.Cond.code ({ cls := "HedgehogLots", name := "drive", desc := "(II)I" } : Jvm.MethodName) prog_1_method_30_code (3 : Nat) (Option.some Jvm.ClassFile.FieldType.int)) ∈ lw_all := lw_g (lw_at lw_m3 113 rfl) rfl
theorem q653 : (Jvm.Cond.methodLink "HedgehogLots" (224 : Nat) ({ cls := "HedgehogLots$Slope", name := "drives", desc := "(II)V" } : Jvm.MethodName)) ∈ lw_all := lw_g (lw_at lw_m3 114 rfl) rfl
theorem q655 : (Jvm.Cond.instanceMethod ({ cls := "HedgehogLots", name := "lay", desc := "(I)I" } : Jvm.MethodName)) ∈ lw_all := lw_g (lw_at lw_m3 116 rfl) rfl
theorem q656 : (Jvm.Cond.selects "HedgehogLots" ({ cls := "HedgehogLots", name := "lay", desc := "(I)I" } : Jvm.MethodName) ({ cls := "HedgehogLots", name := "lay", desc := "(I)I" } : Jvm.MethodName)) ∈ lw_all := lw_g (lw_at lw_m3 117 rfl) rfl
theorem q657 : (Jvm.Cond.code ({ cls := "HedgehogLots", name := "lay", desc := "(I)I" } : Jvm.MethodName) prog_1_method_31_code (2 : Nat) (Option.some Jvm.ClassFile.FieldType.int)) ∈ lw_all := lw_g (lw_at lw_m3 118 rfl) rfl
theorem q658 : (Jvm.Cond.methodLink "HedgehogLots" (228 : Nat) ({ cls := "HedgehogLots$Slope", name := "lays", desc := "(I)V" } : Jvm.MethodName)) ∈ lw_all := lw_g (lw_at lw_m3 119 rfl) rfl
theorem q660 : (Jvm.Cond.instanceMethod ({ cls := "HedgehogLots", name := "clear", desc := "(I)I" } : Jvm.MethodName)) ∈ lw_all := lw_g (lw_at lw_m3 121 rfl) rfl
theorem q661 : (Jvm.Cond.selects "HedgehogLots" ({ cls := "HedgehogLots", name := "clear", desc := "(I)I" } : Jvm.MethodName) ({ cls := "HedgehogLots", name := "clear", desc := "(I)I" } : Jvm.MethodName)) ∈ lw_all := lw_g (lw_at lw_m3 122 rfl) rfl
theorem q662 : (Jvm.Cond.code ({ cls := "HedgehogLots", name := "clear", desc := "(I)I" } : Jvm.MethodName) prog_1_method_32_code (3 : Nat) (Option.some Jvm.ClassFile.FieldType.int)) ∈ lw_all := lw_g (lw_at lw_m3 123 rfl) rfl
theorem q664 : (Jvm.Cond.instanceMethod ({ cls := "HedgehogLots", name := "sue", desc := "(II)I" } : Jvm.MethodName)) ∈ lw_all := lw_g (lw_at lw_m3 125 rfl) rfl
theorem q665 : (Jvm.Cond.selects "HedgehogLots" ({ cls := "HedgehogLots", name := "sue", desc := "(II)I" } : Jvm.MethodName) ({ cls := "HedgehogLots", name := "sue", desc := "(II)I" } : Jvm.MethodName)) ∈ lw_all := lw_g (lw_at lw_m3 126 rfl) rfl
theorem q666 : (Jvm.Cond.code ({ cls := "HedgehogLots", name := "sue", desc := "(II)I" } : Jvm.MethodName) prog_1_method_33_code (3 : Nat) (Option.some Jvm.ClassFile.FieldType.int)) ∈ lw_all := lw_g (lw_at lw_m3 127 rfl) rfl
theorem q667 : (Jvm.Cond.methodLink "HedgehogLots" (232 : Nat) ({ cls := "HedgehogLots", name := "isRun", desc := "(II)Z" } : Jvm.MethodName)) ∈ lw_all := lw_g (lw_at lw_m3 128 rfl) rfl
theorem q668 : (Jvm.Cond.privateMethod ({ cls := "HedgehogLots", name := "isRun", desc := "(II)Z" } : Jvm.MethodName)) ∈ lw_tbl := lw_at lw_m3 129 rfl
theorem q669 : (Jvm.Cond.instanceMethod ({ cls := "HedgehogLots", name := "isRun", desc := "(II)Z" } : Jvm.MethodName)) ∈ lw_all := lw_g (lw_at lw_m3 130 rfl) rfl
theorem q670 : (Jvm.Cond.code ({ cls := "HedgehogLots", name := "isRun", desc := "(II)Z" } : Jvm.MethodName) prog_1_method_20_code (3 : Nat) (Option.some Jvm.ClassFile.FieldType.boolean)) ∈ lw_all := lw_g (lw_at lw_m3 131 rfl) rfl
theorem q671 : (Jvm.Cond.methodLink "HedgehogLots" (193 : Nat) ({ cls := "HedgehogLots", name := "isColumn", desc := "(I)Z" } : Jvm.MethodName)) ∈ lw_all := lw_g (lw_at lw_m3 132 rfl) rfl
theorem q672 : (Jvm.Cond.static ({ cls := "HedgehogLots", name := "isColumn", desc := "(I)Z" } : Jvm.MethodName)) ∈ lw_all := lw_g (lw_at lw_m3 133 rfl) rfl
theorem q673 : (Jvm.Cond.code ({ cls := "HedgehogLots", name := "isColumn", desc := "(I)Z" } : Jvm.MethodName) prog_1_method_16_code (1 : Nat) (Option.some Jvm.ClassFile.FieldType.boolean)) ∈ lw_all := lw_g (lw_at lw_m3 134 rfl) rfl
theorem q674 : (Jvm.Cond.constantLong "HedgehogLots" (180 : Nat) (7 : Int64)) ∈ lw_all := lw_g (lw_at lw_m3 135 rfl) rfl
theorem q676 : (Jvm.Cond.instanceMethod ({ cls := "HedgehogLots", name := "drop", desc := "(I)I" } : Jvm.MethodName)) ∈ lw_all := lw_g (lw_at lw_m3 137 rfl) rfl
theorem q677 : (Jvm.Cond.selects "HedgehogLots" ({ cls := "HedgehogLots", name := "drop", desc := "(I)I" } : Jvm.MethodName) ({ cls := "HedgehogLots", name := "drop", desc := "(I)I" } : Jvm.MethodName)) ∈ lw_all := lw_g (lw_at lw_m3 138 rfl) rfl
theorem q678 : (Jvm.Cond.code ({ cls := "HedgehogLots", name := "drop", desc := "(I)I" } : Jvm.MethodName) prog_1_method_34_code (3 : Nat) (Option.some Jvm.ClassFile.FieldType.int)) ∈ lw_all := lw_g (lw_at lw_m3 139 rfl) rfl
theorem q680 : (Jvm.Cond.instanceMethod ({ cls := "HedgehogLots", name := "run", desc := "(III)I" } : Jvm.MethodName)) ∈ lw_all := lw_g (lw_at lw_m3 141 rfl) rfl
theorem q681 : (Jvm.Cond.selects "HedgehogLots" ({ cls := "HedgehogLots", name := "run", desc := "(III)I" } : Jvm.MethodName) ({ cls := "HedgehogLots", name := "run", desc := "(III)I" } : Jvm.MethodName)) ∈ lw_all := lw_g (lw_at lw_m3 142 rfl) rfl
theorem q682 : (Jvm.Cond.code ({ cls := "HedgehogLots", name := "run", desc := "(III)I" } : Jvm.MethodName) prog_1_method_35_code (4 : Nat) (Option.some Jvm.ClassFile.FieldType.int)) ∈ lw_all := lw_g (lw_at lw_m3 143 rfl) rfl
theorem q683 : (Jvm.Cond.constantLong "HedgehogLots" (235 : Nat) (4 : Int64)) ∈ lw_all := lw_g (lw_at lw_m3 144 rfl) rfl
theorem q685 : (Jvm.Cond.instanceMethod ({ cls := "HedgehogLots", name := "way", desc := "(III)I" } : Jvm.MethodName)) ∈ lw_all := lw_g (lw_at lw_m3 146 rfl) rfl
theorem q686 : (Jvm.Cond.selects "HedgehogLots" ({ cls := "HedgehogLots", name := "way", desc := "(III)I" } : Jvm.MethodName) ({ cls := "HedgehogLots", name := "way", desc := "(III)I" } : Jvm.MethodName)) ∈ lw_all := lw_g (lw_at lw_m3 147 rfl) rfl
theorem q687 : (Jvm.Cond.code ({ cls := "HedgehogLots", name := "way", desc := "(III)I" } : Jvm.MethodName) prog_1_method_36_code (4 : Nat) (Option.some Jvm.ClassFile.FieldType.int)) ∈ lw_all := lw_g (lw_at lw_m3 148 rfl) rfl
theorem q689 : (Jvm.Cond.instanceMethod ({ cls := "HedgehogLots", name := "wins", desc := "(I)I" } : Jvm.MethodName)) ∈ lw_all := lw_g (lw_at lw_m3 150 rfl) rfl
theorem q690 : (Jvm.Cond.selects "HedgehogLots" ({ cls := "HedgehogLots", name := "wins", desc := "(I)I" } : Jvm.MethodName) ({ cls := "HedgehogLots", name := "wins", desc := "(I)I" } : Jvm.MethodName)) ∈ lw_all := lw_g (lw_at lw_m3 151 rfl) rfl
theorem q691 : (Jvm.Cond.code ({ cls := "HedgehogLots", name := "wins", desc := "(I)I" } : Jvm.MethodName) prog_1_method_37_code (2 : Nat) (Option.some Jvm.ClassFile.FieldType.int)) ∈ lw_all := lw_g (lw_at lw_m3 152 rfl) rfl
theorem q693 : (Jvm.Cond.instanceMethod ({ cls := "HedgehogLots", name := "share", desc := "(II)I" } : Jvm.MethodName)) ∈ lw_all := lw_g (lw_at lw_m3 154 rfl) rfl
theorem q694 : (Jvm.Cond.selects "HedgehogLots" ({ cls := "HedgehogLots", name := "share", desc := "(II)I" } : Jvm.MethodName) ({ cls := "HedgehogLots", name := "share", desc := "(II)I" } : Jvm.MethodName)) ∈ lw_all := lw_g (lw_at lw_m3 155 rfl) rfl
theorem q695 : (Jvm.Cond.code ({ cls := "HedgehogLots", name := "share", desc := "(II)I" } : Jvm.MethodName) prog_1_method_39_code (3 : Nat) (Option.some Jvm.ClassFile.FieldType.int)) ∈ lw_all := lw_g (lw_at lw_m3 156 rfl) rfl
theorem q696 : (Jvm.Cond.methodLink "HedgehogLots" (237 : Nat) ({ cls := "HedgehogLots", name := "columns", desc := "(II)I" } : Jvm.MethodName)) ∈ lw_all := lw_g (lw_at lw_m3 157 rfl) rfl
theorem q697 : (Jvm.Cond.privateMethod ({ cls := "HedgehogLots", name := "columns", desc := "(II)I" } : Jvm.MethodName)) ∈ lw_tbl := lw_at lw_m3 158 rfl
theorem q698 : (Jvm.Cond.instanceMethod ({ cls := "HedgehogLots", name := "columns", desc := "(II)I" } : Jvm.MethodName)) ∈ lw_all := lw_g (lw_at lw_m3 159 rfl) rfl
theorem q699 : (Jvm.Cond.code ({ cls := "HedgehogLots", name := "columns", desc := "(II)I" } : Jvm.MethodName) prog_1_method_38_code (5 : Nat) (Option.some Jvm.ClassFile.FieldType.int)) ∈ lw_all := lw_g (lw_at lw_m3 160 rfl) rfl
theorem q700 : (Jvm.Cond.methodLink "HedgehogLots" (88 : Nat) ({ cls := "java/lang/Integer", name := "bitCount", desc := "(I)I" } : Jvm.MethodName)) ∈ lw_all := lw_g (lw_at lw_m3 161 rfl) rfl
theorem q707 : (Jvm.Cond.instanceMethod ({ cls := "HedgehogLots", name := "first", desc := "(II)I" } : Jvm.MethodName)) ∈ lw_all := lw_g (lw_at lw_m3 168 rfl) rfl
theorem q708 : (Jvm.Cond.selects "HedgehogLots" ({ cls := "HedgehogLots", name := "first", desc := "(II)I" } : Jvm.MethodName) ({ cls := "HedgehogLots", name := "first", desc := "(II)I" } : Jvm.MethodName)) ∈ lw_all := lw_g (lw_at lw_m3 169 rfl) rfl
theorem q709 : (Jvm.Cond.code ({ cls := "HedgehogLots", name := "first", desc := "(II)I" } : Jvm.MethodName) prog_1_method_40_code (4 : Nat) (Option.some Jvm.ClassFile.FieldType.int)) ∈ lw_all := lw_g (lw_at lw_m3 170 rfl) rfl
theorem q710 : (Jvm.Cond.methodLink "HedgehogLots" (240 : Nat) ({ cls := "java/lang/Integer", name := "numberOfTrailingZeros", desc := "(I)I" } : Jvm.MethodName)) ∈ lw_all := lw_g (lw_at lw_m3 171 rfl) rfl
theorem q715 : (Jvm.Cond.instanceMethod ({ cls := "HedgehogLots", name := "kindly", desc := "(III)I" } : Jvm.MethodName)) ∈ lw_all := lw_g (lw_at lw_m3 176 rfl) rfl
theorem q716 : (Jvm.Cond.selects "HedgehogLots" ({ cls := "HedgehogLots", name := "kindly", desc := "(III)I" } : Jvm.MethodName) ({ cls := "HedgehogLots", name := "kindly", desc := "(III)I" } : Jvm.MethodName)) ∈ lw_all := lw_g (lw_at lw_m3 177 rfl) rfl
theorem q717 : (Jvm.Cond.code ({ cls := "HedgehogLots", name := "kindly", desc := "(III)I" } : Jvm.MethodName) prog_1_method_41_code (6 : Nat) (Option.some Jvm.ClassFile.FieldType.int)) ∈ lw_all := lw_g (lw_at lw_m3 178 rfl) rfl
theorem q719 : (Jvm.Cond.instanceMethod ({ cls := "HedgehogLots", name := "place", desc := "(II)I" } : Jvm.MethodName)) ∈ lw_all := lw_g (lw_at lw_m3 180 rfl) rfl
theorem q720 : (Jvm.Cond.selects "HedgehogLots" ({ cls := "HedgehogLots", name := "place", desc := "(II)I" } : Jvm.MethodName) ({ cls := "HedgehogLots", name := "place", desc := "(II)I" } : Jvm.MethodName)) ∈ lw_all := lw_g (lw_at lw_m3 181 rfl) rfl
theorem q721 : (Jvm.Cond.code ({ cls := "HedgehogLots", name := "place", desc := "(II)I" } : Jvm.MethodName) prog_1_method_45_code (4 : Nat) (Option.some Jvm.ClassFile.FieldType.int)) ∈ lw_all := lw_g (lw_at lw_m3 182 rfl) rfl
theorem q722 : (Jvm.Cond.methodLink "HedgehogLots" (249 : Nat) ({ cls := "HedgehogLots", name := "isPart", desc := "(I)Z" } : Jvm.MethodName)) ∈ lw_all := lw_g (lw_at lw_m3 183 rfl) rfl
theorem q723 : (Jvm.Cond.static ({ cls := "HedgehogLots", name := "isPart", desc := "(I)Z" } : Jvm.MethodName)) ∈ lw_all := lw_g (lw_at lw_m3 184 rfl) rfl
theorem q724 : (Jvm.Cond.code ({ cls := "HedgehogLots", name := "isPart", desc := "(I)Z" } : Jvm.MethodName) prog_1_method_21_code (1 : Nat) (Option.some Jvm.ClassFile.FieldType.boolean)) ∈ lw_all := lw_g (lw_at lw_m3 185 rfl) rfl
theorem q725 : (Jvm.Cond.methodLink "HedgehogLots" (252 : Nat) ({ cls := "HedgehogLots", name := "startsJudging", desc := "(I)V" } : Jvm.MethodName)) ∈ lw_all := lw_g (lw_at lw_m3 186 rfl) rfl
theorem q726 : (Jvm.Cond.privateMethod ({ cls := "HedgehogLots", name := "startsJudging", desc := "(I)V" } : Jvm.MethodName)) ∈ lw_tbl := lw_at lw_m3 187 rfl
theorem q727 : (Jvm.Cond.instanceMethod ({ cls := "HedgehogLots", name := "startsJudging", desc := "(I)V" } : Jvm.MethodName)) ∈ lw_all := lw_g (lw_at lw_m3 188 rfl) rfl
theorem q728 : (Jvm.Cond.code ({ cls := "HedgehogLots", name := "startsJudging", desc := "(I)V" } : Jvm.MethodName) prog_1_method_42_code (2 : Nat) (Option.none : Option Jvm.ClassFile.FieldType)) ∈ lw_all := lw_g (lw_at lw_m3 189 rfl) rfl
theorem q729 : (Jvm.Cond.methodLink "HedgehogLots" (255 : Nat) ({ cls := "HedgehogLots", name := "wonMany", desc := "(LHedgehogLots$Slope;I)I" } : Jvm.MethodName)) ∈ lw_all := lw_g (lw_at lw_m3 190 rfl) rfl
theorem q730 : (Jvm.Cond.privateMethod ({ cls := "HedgehogLots", name := "wonMany", desc := "(LHedgehogLots$Slope;I)I" } : Jvm.MethodName)) ∈ lw_tbl := lw_at lw_m3 191 rfl
theorem q731 : (Jvm.Cond.instanceMethod ({ cls := "HedgehogLots", name := "wonMany", desc := "(LHedgehogLots$Slope;I)I" } : Jvm.MethodName)) ∈ lw_all := lw_g (lw_at lw_m3 192 rfl) rfl
theorem q732 : (Jvm.Cond.code ({ cls := "HedgehogLots", name := "wonMany", desc := "(LHedgehogLots$Slope;I)I" } : Jvm.MethodName) prog_1_method_8_code (3 : Nat) (Option.some Jvm.ClassFile.FieldType.int)) ∈ lw_all := lw_g (lw_at lw_m3 193 rfl) rfl
theorem q733 : (Jvm.Cond.methodLink "HedgehogLots" (258 : Nat) ({ cls := "HedgehogLots", name := "judges", desc := "(II)V" } : Jvm.MethodName)) ∈ lw_all := lw_g (lw_at lw_m3 194 rfl) rfl
theorem q734 : (Jvm.Cond.privateMethod ({ cls := "HedgehogLots", name := "judges", desc := "(II)V" } : Jvm.MethodName)) ∈ lw_tbl := lw_at lw_m3 195 rfl
theorem q735 : (Jvm.Cond.instanceMethod ({ cls := "HedgehogLots", name := "judges", desc := "(II)V" } : Jvm.MethodName)) ∈ lw_all := lw_g (lw_at lw_m3 196 rfl) rfl
theorem q736 : (Jvm.Cond.code ({ cls := "HedgehogLots", name := "judges", desc := "(II)V" } : Jvm.MethodName) prog_1_method_43_code (3 : Nat) (Option.none : Option Jvm.ClassFile.FieldType)) ∈ lw_all := lw_g (lw_at lw_m3 197 rfl) rfl
theorem q737 : (Jvm.Cond.methodLink "HedgehogLots" (261 : Nat) ({ cls := "HedgehogLots", name := "judged", desc := "(I)I" } : Jvm.MethodName)) ∈ lw_all := lw_g (lw_at lw_m3 198 rfl) rfl
theorem q738 : (Jvm.Cond.privateMethod ({ cls := "HedgehogLots", name := "judged", desc := "(I)I" } : Jvm.MethodName)) ∈ lw_tbl := lw_at lw_m3 199 rfl
theorem q739 : (Jvm.Cond.instanceMethod ({ cls := "HedgehogLots", name := "judged", desc := "(I)I" } : Jvm.MethodName)) ∈ lw_all := lw_g (lw_at lw_m3 200 rfl) rfl
theorem q740 : (Jvm.Cond.code ({ cls := "HedgehogLots", name := "judged", desc := "(I)I" } : Jvm.MethodName) prog_1_method_44_code (2 : Nat) (Option.some Jvm.ClassFile.FieldType.int)) ∈ lw_all := lw_g (lw_at lw_m3 201 rfl) rfl
theorem q742 : (Jvm.Cond.instanceMethod ({ cls := "HedgehogLots", name := "move", desc := "(II)I" } : Jvm.MethodName)) ∈ lw_all := lw_g (lw_at lw_m3 203 rfl) rfl
theorem q743 : (Jvm.Cond.selects "HedgehogLots" ({ cls := "HedgehogLots", name := "move", desc := "(II)I" } : Jvm.MethodName) ({ cls := "HedgehogLots", name := "move", desc := "(II)I" } : Jvm.MethodName)) ∈ lw_all := lw_g (lw_at lw_m3 204 rfl) rfl
theorem q744 : (Jvm.Cond.code ({ cls := "HedgehogLots", name := "move", desc := "(II)I" } : Jvm.MethodName) prog_1_method_46_code (4 : Nat) (Option.some Jvm.ClassFile.FieldType.int)) ∈ lw_all := lw_g (lw_at lw_m3 205 rfl) rfl
theorem q746 : (Jvm.Cond.instanceMethod ({ cls := "HedgehogLots", name := "bribe", desc := "(II)I" } : Jvm.MethodName)) ∈ lw_all := lw_g (lw_at lw_m3 207 rfl) rfl
theorem q747 : (Jvm.Cond.selects "HedgehogLots" ({ cls := "HedgehogLots", name := "bribe", desc := "(II)I" } : Jvm.MethodName) ({ cls := "HedgehogLots", name := "bribe", desc := "(II)I" } : Jvm.MethodName)) ∈ lw_all := lw_g (lw_at lw_m3 208 rfl) rfl
theorem q748 : (Jvm.Cond.code ({ cls := "HedgehogLots", name := "bribe", desc := "(II)I" } : Jvm.MethodName) prog_1_method_48_code (7 : Nat) (Option.some Jvm.ClassFile.FieldType.int)) ∈ lw_all := lw_g (lw_at lw_m3 209 rfl) rfl
theorem q749 : (Jvm.Cond.constant "HedgehogLots" (264 : Nat) (1000000 : Int32)) ∈ lw_all := lw_g (lw_at lw_m3 210 rfl) rfl
theorem q750 : (Jvm.Cond.methodLink "HedgehogLots" (265 : Nat) ({ cls := "HedgehogLots", name := "wonByOthers", desc := "(LHedgehogLots$Slope;I)I" } : Jvm.MethodName)) ∈ lw_all := lw_g (lw_at lw_m3 211 rfl) rfl
theorem q751 : (Jvm.Cond.privateMethod ({ cls := "HedgehogLots", name := "wonByOthers", desc := "(LHedgehogLots$Slope;I)I" } : Jvm.MethodName)) ∈ lw_tbl := lw_at lw_m3 212 rfl
theorem q752 : (Jvm.Cond.instanceMethod ({ cls := "HedgehogLots", name := "wonByOthers", desc := "(LHedgehogLots$Slope;I)I" } : Jvm.MethodName)) ∈ lw_all := lw_g (lw_at lw_m3 213 rfl) rfl
theorem q753 : (Jvm.Cond.code ({ cls := "HedgehogLots", name := "wonByOthers", desc := "(LHedgehogLots$Slope;I)I" } : Jvm.MethodName) prog_1_method_47_code (3 : Nat) (Option.some Jvm.ClassFile.FieldType.int)) ∈ lw_all := lw_g (lw_at lw_m3 214 rfl) rfl
theorem q755 : (Jvm.Cond.instanceMethod ({ cls := "HedgehogLots", name := "need", desc := "(II)I" } : Jvm.MethodName)) ∈ lw_all := lw_g (lw_at lw_m3 216 rfl) rfl
theorem q756 : (Jvm.Cond.selects "HedgehogLots" ({ cls := "HedgehogLots", name := "need", desc := "(II)I" } : Jvm.MethodName) ({ cls := "HedgehogLots", name := "need", desc := "(II)I" } : Jvm.MethodName)) ∈ lw_all := lw_g (lw_at lw_m3 217 rfl) rfl
theorem q757 : (Jvm.Cond.code ({ cls := "HedgehogLots", name := "need", desc := "(II)I" } : Jvm.MethodName) prog_1_method_49_code (4 : Nat) (Option.some Jvm.ClassFile.FieldType.int)) ∈ lw_all := lw_g (lw_at lw_m3 218 rfl) rfl
theorem q759 : (Jvm.Cond.instanceMethod ({ cls := "HedgehogLots", name := "swap", desc := "(II)I" } : Jvm.MethodName)) ∈ lw_all := lw_g (lw_at lw_m3 220 rfl) rfl
theorem q760 : (Jvm.Cond.selects "HedgehogLots" ({ cls := "HedgehogLots", name := "swap", desc := "(II)I" } : Jvm.MethodName) ({ cls := "HedgehogLots", name := "swap", desc := "(II)I" } : Jvm.MethodName)) ∈ lw_all := lw_g (lw_at lw_m3 221 rfl) rfl
theorem q761 : (Jvm.Cond.code ({ cls := "HedgehogLots", name := "swap", desc := "(II)I" } : Jvm.MethodName) prog_1_method_50_code (7 : Nat) (Option.some Jvm.ClassFile.FieldType.int)) ∈ lw_all := lw_g (lw_at lw_m3 222 rfl) rfl
theorem q763 : (Jvm.Cond.instanceMethod ({ cls := "HedgehogLots", name := "pull", desc := "(II)I" } : Jvm.MethodName)) ∈ lw_all := lw_g (lw_at lw_m3 224 rfl) rfl
theorem q764 : (Jvm.Cond.selects "HedgehogLots" ({ cls := "HedgehogLots", name := "pull", desc := "(II)I" } : Jvm.MethodName) ({ cls := "HedgehogLots", name := "pull", desc := "(II)I" } : Jvm.MethodName)) ∈ lw_all := lw_g (lw_at lw_m3 225 rfl) rfl
theorem q765 : (Jvm.Cond.code ({ cls := "HedgehogLots", name := "pull", desc := "(II)I" } : Jvm.MethodName) prog_1_method_51_code (4 : Nat) (Option.some Jvm.ClassFile.FieldType.int)) ∈ lw_all := lw_g (lw_at lw_m3 226 rfl) rfl
theorem q766 : (Jvm.Cond.methodLink "HedgehogLots" (268 : Nat) ({ cls := "HedgehogLots$Slope", name := "pulls", desc := "(I)V" } : Jvm.MethodName)) ∈ lw_all := lw_g (lw_at lw_m3 227 rfl) rfl
theorem q771 : (Jvm.Cond.instanceMethod ({ cls := "HedgehogLots", name := "luck", desc := "(IIIII)J" } : Jvm.MethodName)) ∈ lw_all := lw_g (lw_at lw_m3 232 rfl) rfl
theorem q772 : (Jvm.Cond.selects "HedgehogLots" ({ cls := "HedgehogLots", name := "luck", desc := "(IIIII)J" } : Jvm.MethodName) ({ cls := "HedgehogLots", name := "luck", desc := "(IIIII)J" } : Jvm.MethodName)) ∈ lw_all := lw_g (lw_at lw_m3 233 rfl) rfl
theorem q773 : (Jvm.Cond.code ({ cls := "HedgehogLots", name := "luck", desc := "(IIIII)J" } : Jvm.MethodName) prog_1_method_54_code (6 : Nat) (Option.some Jvm.ClassFile.FieldType.long)) ∈ lw_all := lw_g (lw_at lw_m3 234 rfl) rfl
theorem q774 : (Jvm.Cond.constantLong "HedgehogLots" (281 : Nat) (10 : Int64)) ∈ lw_all := lw_g (lw_at lw_m3 235 rfl) rfl
theorem q775 : (Jvm.Cond.constantLong "HedgehogLots" (283 : Nat) (-1 : Int64)) ∈ lw_all := lw_g (lw_at lw_m3 236 rfl) rfl
theorem q776 : (Jvm.Cond.methodLink "HedgehogLots" (285 : Nat) ({ cls := "HedgehogLots", name := "findOdds", desc := "(IIII)V" } : Jvm.MethodName)) ∈ lw_all := lw_g (lw_at lw_m3 237 rfl) rfl
theorem q777 : (Jvm.Cond.privateMethod ({ cls := "HedgehogLots", name := "findOdds", desc := "(IIII)V" } : Jvm.MethodName)) ∈ lw_tbl := lw_at lw_m3 238 rfl
theorem q778 : (Jvm.Cond.instanceMethod ({ cls := "HedgehogLots", name := "findOdds", desc := "(IIII)V" } : Jvm.MethodName)) ∈ lw_all := lw_g (lw_at lw_m3 239 rfl) rfl
theorem q779 : (Jvm.Cond.code ({ cls := "HedgehogLots", name := "findOdds", desc := "(IIII)V" } : Jvm.MethodName) prog_1_method_53_code (9 : Nat) (Option.none : Option Jvm.ClassFile.FieldType)) ∈ lw_all := lw_g (lw_at lw_m4 0 rfl) rfl
theorem q780 : (Jvm.Cond.methodLink "HedgehogLots" (289 : Nat) ({ cls := "HedgehogLots", name := "lowest", desc := "(JJI)J" } : Jvm.MethodName)) ∈ lw_all := lw_g (lw_at lw_m4 1 rfl) rfl
theorem q781 : (Jvm.Cond.static ({ cls := "HedgehogLots", name := "lowest", desc := "(JJI)J" } : Jvm.MethodName)) ∈ lw_all := lw_g (lw_at lw_m4 2 rfl) rfl
theorem q782 : (Jvm.Cond.code ({ cls := "HedgehogLots", name := "lowest", desc := "(JJI)J" } : Jvm.MethodName) prog_1_method_52_code (11 : Nat) (Option.some Jvm.ClassFile.FieldType.long)) ∈ lw_all := lw_g (lw_at lw_m4 3 rfl) rfl
theorem q784 : (Jvm.Cond.instanceMethod ({ cls := "HedgehogLots", name := "mean", desc := "(IIII)J" } : Jvm.MethodName)) ∈ lw_all := lw_g (lw_at lw_m4 5 rfl) rfl
theorem q785 : (Jvm.Cond.selects "HedgehogLots" ({ cls := "HedgehogLots", name := "mean", desc := "(IIII)J" } : Jvm.MethodName) ({ cls := "HedgehogLots", name := "mean", desc := "(IIII)J" } : Jvm.MethodName)) ∈ lw_all := lw_g (lw_at lw_m4 6 rfl) rfl
theorem q786 : (Jvm.Cond.code ({ cls := "HedgehogLots", name := "mean", desc := "(IIII)J" } : Jvm.MethodName) prog_1_method_55_code (5 : Nat) (Option.some Jvm.ClassFile.FieldType.long)) ∈ lw_all := lw_g (lw_at lw_m4 7 rfl) rfl
theorem q788 : (Jvm.Cond.instanceMethod ({ cls := "HedgehogLots", name := "see", desc := "(III)I" } : Jvm.MethodName)) ∈ lw_all := lw_g (lw_at lw_m4 9 rfl) rfl
theorem q789 : (Jvm.Cond.selects "HedgehogLots" ({ cls := "HedgehogLots", name := "see", desc := "(III)I" } : Jvm.MethodName) ({ cls := "HedgehogLots", name := "see", desc := "(III)I" } : Jvm.MethodName)) ∈ lw_all := lw_g (lw_at lw_m4 10 rfl) rfl
theorem q790 : (Jvm.Cond.code ({ cls := "HedgehogLots", name := "see", desc := "(III)I" } : Jvm.MethodName) prog_1_method_56_code (4 : Nat) (Option.some Jvm.ClassFile.FieldType.int)) ∈ lw_all := lw_g (lw_at lw_m4 11 rfl) rfl
theorem q791 : (Jvm.Cond.constantLong "HedgehogLots" (293 : Nat) (6 : Int64)) ∈ lw_all := lw_g (lw_at lw_m4 12 rfl) rfl
theorem q793 : (Jvm.Cond.instanceMethod ({ cls := "HedgehogLots", name := "forget", desc := "(I)I" } : Jvm.MethodName)) ∈ lw_all := lw_g (lw_at lw_m4 14 rfl) rfl
theorem q794 : (Jvm.Cond.selects "HedgehogLots" ({ cls := "HedgehogLots", name := "forget", desc := "(I)I" } : Jvm.MethodName) ({ cls := "HedgehogLots", name := "forget", desc := "(I)I" } : Jvm.MethodName)) ∈ lw_all := lw_g (lw_at lw_m4 15 rfl) rfl
theorem q795 : (Jvm.Cond.code ({ cls := "HedgehogLots", name := "forget", desc := "(I)I" } : Jvm.MethodName) prog_1_method_57_code (3 : Nat) (Option.some Jvm.ClassFile.FieldType.int)) ∈ lw_all := lw_g (lw_at lw_m4 16 rfl) rfl
theorem q797 : (Jvm.Cond.instanceMethod ({ cls := "HedgehogLots", name := "kinds", desc := "(I)I" } : Jvm.MethodName)) ∈ lw_all := lw_g (lw_at lw_m4 18 rfl) rfl
theorem q798 : (Jvm.Cond.selects "HedgehogLots" ({ cls := "HedgehogLots", name := "kinds", desc := "(I)I" } : Jvm.MethodName) ({ cls := "HedgehogLots", name := "kinds", desc := "(I)I" } : Jvm.MethodName)) ∈ lw_all := lw_g (lw_at lw_m4 19 rfl) rfl
theorem q799 : (Jvm.Cond.code ({ cls := "HedgehogLots", name := "kinds", desc := "(I)I" } : Jvm.MethodName) prog_1_method_59_code (4 : Nat) (Option.some Jvm.ClassFile.FieldType.int)) ∈ lw_all := lw_g (lw_at lw_m4 20 rfl) rfl
theorem q800 : (Jvm.Cond.methodLink "HedgehogLots" (295 : Nat) ({ cls := "HedgehogLots", name := "isSo", desc := "(III)Z" } : Jvm.MethodName)) ∈ lw_all := lw_g (lw_at lw_m4 21 rfl) rfl
theorem q801 : (Jvm.Cond.privateMethod ({ cls := "HedgehogLots", name := "isSo", desc := "(III)Z" } : Jvm.MethodName)) ∈ lw_tbl := lw_at lw_m4 22 rfl
theorem q802 : (Jvm.Cond.instanceMethod ({ cls := "HedgehogLots", name := "isSo", desc := "(III)Z" } : Jvm.MethodName)) ∈ lw_all := lw_g (lw_at lw_m4 23 rfl) rfl
theorem q803 : (Jvm.Cond.code ({ cls := "HedgehogLots", name := "isSo", desc := "(III)Z" } : Jvm.MethodName) prog_1_method_58_code (6 : Nat) (Option.some Jvm.ClassFile.FieldType.boolean)) ∈ lw_all := lw_g (lw_at lw_m4 24 rfl) rfl
theorem q805 : (Jvm.Cond.instanceMethod ({ cls := "HedgehogLots", name := "speeds", desc := "(I)I" } : Jvm.MethodName)) ∈ lw_all := lw_g (lw_at lw_m4 26 rfl) rfl
theorem q806 : (Jvm.Cond.selects "HedgehogLots" ({ cls := "HedgehogLots", name := "speeds", desc := "(I)I" } : Jvm.MethodName) ({ cls := "HedgehogLots", name := "speeds", desc := "(I)I" } : Jvm.MethodName)) ∈ lw_all := lw_g (lw_at lw_m4 27 rfl) rfl
theorem q807 : (Jvm.Cond.code ({ cls := "HedgehogLots", name := "speeds", desc := "(I)I" } : Jvm.MethodName) prog_1_method_61_code (2 : Nat) (Option.some Jvm.ClassFile.FieldType.int)) ∈ lw_all := lw_g (lw_at lw_m4 28 rfl) rfl
theorem q808 : (Jvm.Cond.methodLink "HedgehogLots" (299 : Nat) ({ cls := "HedgehogLots", name := "speedsOf", desc := "(I)I" } : Jvm.MethodName)) ∈ lw_all := lw_g (lw_at lw_m4 29 rfl) rfl
theorem q809 : (Jvm.Cond.privateMethod ({ cls := "HedgehogLots", name := "speedsOf", desc := "(I)I" } : Jvm.MethodName)) ∈ lw_tbl := lw_at lw_m4 30 rfl
theorem q810 : (Jvm.Cond.instanceMethod ({ cls := "HedgehogLots", name := "speedsOf", desc := "(I)I" } : Jvm.MethodName)) ∈ lw_all := lw_g (lw_at lw_m4 31 rfl) rfl
theorem q811 : (Jvm.Cond.code ({ cls := "HedgehogLots", name := "speedsOf", desc := "(I)I" } : Jvm.MethodName) prog_1_method_60_code (4 : Nat) (Option.some Jvm.ClassFile.FieldType.int)) ∈ lw_all := lw_g (lw_at lw_m4 32 rfl) rfl
theorem q813 : (Jvm.Cond.instanceMethod ({ cls := "HedgehogLots", name := "ask", desc := "(II)I" } : Jvm.MethodName)) ∈ lw_all := lw_g (lw_at lw_m4 34 rfl) rfl
theorem q814 : (Jvm.Cond.selects "HedgehogLots" ({ cls := "HedgehogLots", name := "ask", desc := "(II)I" } : Jvm.MethodName) ({ cls := "HedgehogLots", name := "ask", desc := "(II)I" } : Jvm.MethodName)) ∈ lw_all := lw_g (lw_at lw_m4 35 rfl) rfl
theorem q815 : (Jvm.Cond.code ({ cls := "HedgehogLots", name := "ask", desc := "(II)I" } : Jvm.MethodName) prog_1_method_63_code (8 : Nat) (Option.some Jvm.ClassFile.FieldType.int)) ∈ lw_all := lw_g (lw_at lw_m4 36 rfl) rfl
theorem q816 : (Jvm.Cond.methodLink "HedgehogLots" (302 : Nat) ({ cls := "HedgehogLots", name := "worstFrom", desc := "(III)I" } : Jvm.MethodName)) ∈ lw_all := lw_g (lw_at lw_m4 37 rfl) rfl
theorem q817 : (Jvm.Cond.privateMethod ({ cls := "HedgehogLots", name := "worstFrom", desc := "(III)I" } : Jvm.MethodName)) ∈ lw_tbl := lw_at lw_m4 38 rfl
theorem q818 : (Jvm.Cond.instanceMethod ({ cls := "HedgehogLots", name := "worstFrom", desc := "(III)I" } : Jvm.MethodName)) ∈ lw_all := lw_g (lw_at lw_m4 39 rfl) rfl
theorem q819 : (Jvm.Cond.code ({ cls := "HedgehogLots", name := "worstFrom", desc := "(III)I" } : Jvm.MethodName) prog_1_method_62_code (7 : Nat) (Option.some Jvm.ClassFile.FieldType.int)) ∈ lw_all := lw_g (lw_at lw_m4 40 rfl) rfl
theorem q821 : (Jvm.Cond.instanceMethod ({ cls := "HedgehogLots", name := "drift", desc := "(III)I" } : Jvm.MethodName)) ∈ lw_all := lw_g (lw_at lw_m4 42 rfl) rfl
theorem q822 : (Jvm.Cond.selects "HedgehogLots" ({ cls := "HedgehogLots", name := "drift", desc := "(III)I" } : Jvm.MethodName) ({ cls := "HedgehogLots", name := "drift", desc := "(III)I" } : Jvm.MethodName)) ∈ lw_all := lw_g (lw_at lw_m4 43 rfl) rfl
theorem q823 : (Jvm.Cond.code ({ cls := "HedgehogLots", name := "drift", desc := "(III)I" } : Jvm.MethodName) prog_1_method_64_code (10 : Nat) (Option.some Jvm.ClassFile.FieldType.int)) ∈ lw_all := lw_g (lw_at lw_m4 44 rfl) rfl
theorem q824 : (Jvm.Cond.constantLong "HedgehogLots" (306 : Nat) (60 : Int64)) ∈ lw_all := lw_g (lw_at lw_m4 45 rfl) rfl
theorem q825 : (Jvm.Cond.constant "HedgehogLots" (308 : Nat) (1103515245 : Int32)) ∈ lw_all := lw_g (lw_at lw_m4 46 rfl) rfl
theorem q827 : (Jvm.Cond.instanceMethod ({ cls := "HedgehogLots", name := "keep", desc := "(I)I" } : Jvm.MethodName)) ∈ lw_all := lw_g (lw_at lw_m4 48 rfl) rfl
theorem q828 : (Jvm.Cond.selects "HedgehogLots" ({ cls := "HedgehogLots", name := "keep", desc := "(I)I" } : Jvm.MethodName) ({ cls := "HedgehogLots", name := "keep", desc := "(I)I" } : Jvm.MethodName)) ∈ lw_all := lw_g (lw_at lw_m4 49 rfl) rfl
theorem q829 : (Jvm.Cond.code ({ cls := "HedgehogLots", name := "keep", desc := "(I)I" } : Jvm.MethodName) prog_1_method_65_code (3 : Nat) (Option.some Jvm.ClassFile.FieldType.int)) ∈ lw_all := lw_g (lw_at lw_m4 50 rfl) rfl
theorem q831 : (Jvm.Cond.instanceMethod ({ cls := "HedgehogLots", name := "back", desc := "(I)I" } : Jvm.MethodName)) ∈ lw_all := lw_g (lw_at lw_m4 52 rfl) rfl
theorem q832 : (Jvm.Cond.selects "HedgehogLots" ({ cls := "HedgehogLots", name := "back", desc := "(I)I" } : Jvm.MethodName) ({ cls := "HedgehogLots", name := "back", desc := "(I)I" } : Jvm.MethodName)) ∈ lw_all := lw_g (lw_at lw_m4 53 rfl) rfl
theorem q833 : (Jvm.Cond.code ({ cls := "HedgehogLots", name := "back", desc := "(I)I" } : Jvm.MethodName) prog_1_method_66_code (2 : Nat) (Option.some Jvm.ClassFile.FieldType.int)) ∈ lw_all := lw_g (lw_at lw_m4 54 rfl) rfl
theorem q835 : (Jvm.Cond.instanceMethod ({ cls := "HedgehogLots", name := "sheet", desc := "(III)I" } : Jvm.MethodName)) ∈ lw_all := lw_g (lw_at lw_m4 56 rfl) rfl
theorem q836 : (Jvm.Cond.selects "HedgehogLots" ({ cls := "HedgehogLots", name := "sheet", desc := "(III)I" } : Jvm.MethodName) ({ cls := "HedgehogLots", name := "sheet", desc := "(III)I" } : Jvm.MethodName)) ∈ lw_all := lw_g (lw_at lw_m4 57 rfl) rfl
theorem q837 : (Jvm.Cond.codeWith ({ cls := "HedgehogLots", name := "sheet", desc := "(III)I" } : Jvm.MethodName) prog_1_method_68_code (5 : Nat) (Option.some Jvm.ClassFile.FieldType.int) [((16 : Nat), (50 : Nat), (51 : Nat), (316 : Nat))]) ∈ lw_all := lw_g (lw_at lw_m4 58 rfl) rfl
theorem q838 : (Jvm.Cond.classLink "HedgehogLots" (316 : Nat) "java/lang/NegativeArraySizeException") ∈ lw_all := lw_g (lw_at lw_m4 59 rfl) rfl
theorem q867 : (Jvm.Cond.methodLink "HedgehogLots" (309 : Nat) ({ cls := "HedgehogLots", name := "isSheet", desc := "(II)Z" } : Jvm.MethodName)) ∈ lw_all := lw_g (lw_at lw_m4 88 rfl) rfl
theorem q868 : (Jvm.Cond.static ({ cls := "HedgehogLots", name := "isSheet", desc := "(II)Z" } : Jvm.MethodName)) ∈ lw_all := lw_g (lw_at lw_m4 89 rfl) rfl
theorem q869 : (Jvm.Cond.code ({ cls := "HedgehogLots", name := "isSheet", desc := "(II)Z" } : Jvm.MethodName) prog_1_method_67_code (2 : Nat) (Option.some Jvm.ClassFile.FieldType.boolean)) ∈ lw_all := lw_g (lw_at lw_m4 90 rfl) rfl
theorem q873 : (Jvm.Cond.instanceMethod ({ cls := "HedgehogLots", name := "write", desc := "(III)I" } : Jvm.MethodName)) ∈ lw_all := lw_g (lw_at lw_m4 94 rfl) rfl
theorem q874 : (Jvm.Cond.selects "HedgehogLots" ({ cls := "HedgehogLots", name := "write", desc := "(III)I" } : Jvm.MethodName) ({ cls := "HedgehogLots", name := "write", desc := "(III)I" } : Jvm.MethodName)) ∈ lw_all := lw_g (lw_at lw_m4 95 rfl) rfl
theorem q875 : (Jvm.Cond.codeWith ({ cls := "HedgehogLots", name := "write", desc := "(III)I" } : Jvm.MethodName) prog_1_method_69_code (6 : Nat) (Option.some Jvm.ClassFile.FieldType.int) [((25 : Nat), (74 : Nat), (75 : Nat), (323 : Nat)), ((25 : Nat), (74 : Nat), (80 : Nat), (325 : Nat))]) ∈ lw_all := lw_g (lw_at lw_m4 96 rfl) rfl
theorem q876 : (Jvm.Cond.classLink "HedgehogLots" (323 : Nat) "java/lang/NullPointerException") ∈ lw_all := lw_g (lw_at lw_m4 97 rfl) rfl
theorem q901 : (Jvm.Cond.classLink "HedgehogLots" (325 : Nat) "java/lang/IndexOutOfBoundsException") ∈ lw_all := lw_g (lw_at lw_m4 122 rfl) rfl
theorem q920 : (Jvm.Cond.classLink "HedgehogLots" (318 : Nat) "[B") ∈ lw_all := lw_g (lw_at lw_m4 141 rfl) rfl
theorem q921 : (Jvm.Cond.classLink "HedgehogLots" (319 : Nat) "[S") ∈ lw_all := lw_g (lw_at lw_m4 142 rfl) rfl
theorem q922 : (Jvm.Cond.classLink "HedgehogLots" (321 : Nat) "[I") ∈ lw_all := lw_g (lw_at lw_m4 143 rfl) rfl
theorem q924 : (Jvm.Cond.instanceMethod ({ cls := "HedgehogLots", name := "read", desc := "(IIII)I" } : Jvm.MethodName)) ∈ lw_all := lw_g (lw_at lw_m4 145 rfl) rfl
theorem q925 : (Jvm.Cond.selects "HedgehogLots" ({ cls := "HedgehogLots", name := "read", desc := "(IIII)I" } : Jvm.MethodName) ({ cls := "HedgehogLots", name := "read", desc := "(IIII)I" } : Jvm.MethodName)) ∈ lw_all := lw_g (lw_at lw_m4 146 rfl) rfl
theorem q926 : (Jvm.Cond.codeWith ({ cls := "HedgehogLots", name := "read", desc := "(IIII)I" } : Jvm.MethodName) prog_1_method_71_code (8 : Nat) (Option.some Jvm.ClassFile.FieldType.int) [((40 : Nat), (100 : Nat), (110 : Nat), (323 : Nat)), ((101 : Nat), (107 : Nat), (110 : Nat), (323 : Nat)), ((40 : Nat), (100 : Nat), (118 : Nat), (335 : Nat)), ((101 : Nat), (107 : Nat), (118 : Nat), (335 : Nat)), ((40 : Nat), (100 : Nat), (126 : Nat), (325 : Nat)), ((101 : Nat), (107 : Nat), (126 : Nat), (325 : Nat))]) ∈ lw_all := lw_g (lw_at lw_m4 147 rfl) rfl
theorem q927 : (Jvm.Cond.classLink "HedgehogLots" (335 : Nat) "java/lang/ClassCastException") ∈ lw_all := lw_g (lw_at lw_m4 148 rfl) rfl
theorem q941 : (Jvm.Cond.constantLong "HedgehogLots" (327 : Nat) (20 : Int64)) ∈ lw_all := lw_g (lw_at lw_m4 162 rfl) rfl
theorem q942 : (Jvm.Cond.methodLink "HedgehogLots" (329 : Nat) ({ cls := "HedgehogLots", name := "takenOf", desc := "(III)I" } : Jvm.MethodName)) ∈ lw_all := lw_g (lw_at lw_m4 163 rfl) rfl
theorem q943 : (Jvm.Cond.privateMethod ({ cls := "HedgehogLots", name := "takenOf", desc := "(III)I" } : Jvm.MethodName)) ∈ lw_tbl := lw_at lw_m4 164 rfl
theorem q944 : (Jvm.Cond.instanceMethod ({ cls := "HedgehogLots", name := "takenOf", desc := "(III)I" } : Jvm.MethodName)) ∈ lw_all := lw_g (lw_at lw_m4 165 rfl) rfl
theorem q945 : (Jvm.Cond.code ({ cls := "HedgehogLots", name := "takenOf", desc := "(III)I" } : Jvm.MethodName) prog_1_method_70_code (5 : Nat) (Option.some Jvm.ClassFile.FieldType.int)) ∈ lw_all := lw_g (lw_at lw_m4 166 rfl) rfl
theorem q946 : (Jvm.Cond.methodLink "HedgehogLots" (332 : Nat) ({ cls := "HedgehogLots", name := "drive", desc := "(II)I" } : Jvm.MethodName)) ∈ lw_all := lw_g (lw_at lw_m4 167 rfl) rfl
theorem q948 : (Jvm.Cond.instanceMethod ({ cls := "HedgehogLots", name := "torn", desc := "()I" } : Jvm.MethodName)) ∈ lw_all := lw_g (lw_at lw_m4 169 rfl) rfl
theorem q949 : (Jvm.Cond.selects "HedgehogLots" ({ cls := "HedgehogLots", name := "torn", desc := "()I" } : Jvm.MethodName) ({ cls := "HedgehogLots", name := "torn", desc := "()I" } : Jvm.MethodName)) ∈ lw_all := lw_g (lw_at lw_m4 170 rfl) rfl
theorem q950 : (Jvm.Cond.code ({ cls := "HedgehogLots", name := "torn", desc := "()I" } : Jvm.MethodName) prog_1_method_72_code (1 : Nat) (Option.some Jvm.ClassFile.FieldType.int)) ∈ lw_all := lw_g (lw_at lw_m4 171 rfl) rfl
theorem q952 : (Jvm.Cond.instanceMethod ({ cls := "HedgehogLots", name := "count", desc := "(I)I" } : Jvm.MethodName)) ∈ lw_all := lw_g (lw_at lw_m4 173 rfl) rfl
theorem q953 : (Jvm.Cond.selects "HedgehogLots" ({ cls := "HedgehogLots", name := "count", desc := "(I)I" } : Jvm.MethodName) ({ cls := "HedgehogLots", name := "count", desc := "(I)I" } : Jvm.MethodName)) ∈ lw_all := lw_g (lw_at lw_m4 174 rfl) rfl
theorem q954 : (Jvm.Cond.code ({ cls := "HedgehogLots", name := "count", desc := "(I)I" } : Jvm.MethodName) prog_1_method_73_code (7 : Nat) (Option.some Jvm.ClassFile.FieldType.int)) ∈ lw_all := lw_g (lw_at lw_m4 175 rfl) rfl
theorem in_X0 : ∀ w ∈ wsX00, w ∈ lw_all := lw_in wsX00 [208, 210, 212, 214, 216, 218, 220, 222, 224, 226, 228, 230, 232, 234, 236, 238, 240, 242, 244, 246, 248, 250, 252] (by decide +kernel) (by decide +kernel)
