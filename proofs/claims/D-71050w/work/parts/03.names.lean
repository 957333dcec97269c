/-! HedgehogLots$Plain -/
set_option maxRecDepth 100000
def RX1 : String := "HedgehogLots$Plain"
abbrev cX1_init : ByteArray := prog_5_method_1_code
def yX1_init : MethodName := ⟨RX1, "<init>", "()V"⟩
theorem dX1_init_0 : decode cX1_init 0 = .ok (.aload_n 0, 1) := by decide +kernel
theorem dX1_init_1 : decode cX1_init 1 = .ok (.invokespecial 1, 3) := by decide +kernel
theorem dX1_init_4 : decode cX1_init 4 = .ok (.return_, 1) := by decide +kernel
abbrev cX1_loses : ByteArray := prog_5_method_2_code
def yX1_loses : MethodName := ⟨RX1, "loses", "()I"⟩
theorem dX1_loses_0 : decode cX1_loses 0 = .ok (.iconst 2, 1) := by decide +kernel
theorem dX1_loses_1 : decode cX1_loses 1 = .ok (.ireturn, 1) := by decide +kernel
abbrev cX1_turns : ByteArray := prog_5_method_3_code
def yX1_turns : MethodName := ⟨RX1, "turns", "(I)I"⟩
def dkwX1_turns_0 : List UInt8 := [27, 5, 112, 154, 0, 7, 2, 167, 0, 4, 4, 172]
abbrev dktX1_turns_0 : List UInt8 := dkwX1_turns_0 ++ []
theorem dksX1_turns_0 : cX1_turns.data.toList.drop 0 = dktX1_turns_0 := by decide +kernel
theorem dX1_turns_0 : decode cX1_turns 0 = .ok (.iload_n 1, 1) := dk_27 (dk_at dksX1_turns_0 0 rfl rfl)
theorem dX1_turns_1 : decode cX1_turns 1 = .ok (.iconst 2, 1) := dk_5 (dk_at dksX1_turns_0 1 rfl rfl)
theorem dX1_turns_2 : decode cX1_turns 2 = .ok (.irem, 1) := dk_112 (dk_at dksX1_turns_0 2 rfl rfl)
theorem dX1_turns_3 : decode cX1_turns 3 = .ok (.ifCond .ne 7, 3) := dk_154 0 7 (dk_at dksX1_turns_0 3 rfl rfl)
theorem dX1_turns_6 : decode cX1_turns 6 = .ok (.iconst (-1), 1) := dk_2 (dk_at dksX1_turns_0 6 rfl rfl)
theorem dX1_turns_7 : decode cX1_turns 7 = .ok (.goto 4, 3) := dk_167 0 4 (dk_at dksX1_turns_0 7 rfl rfl)
theorem dX1_turns_10 : decode cX1_turns 10 = .ok (.iconst 1, 1) := dk_4 (dk_at dksX1_turns_0 10 rfl rfl)
theorem dX1_turns_11 : decode cX1_turns 11 = .ok (.ireturn, 1) := dk_172 (dk_at dksX1_turns_0 11 rfl rfl)
theorem q61 : (Jvm.Cond.initialized "HedgehogLots$Plain") ∈ lw_all := lw_g (lw_at lw_m1 2 rfl) rfl
theorem q95 : (Jvm.Cond.instantiable "HedgehogLots$Plain" (0 : Nat)) ∈ lw_all := lw_g (lw_at lw_m1 36 rfl) rfl
theorem q97 : (Jvm.Cond.instanceMethod ({ cls := "HedgehogLots$Plain", name := "<init>", desc := "()V" } : Jvm.MethodName)) ∈ lw_all := lw_g (lw_at lw_m1 38 rfl) rfl
theorem q98 : (Jvm.Cond.code ({ cls := "HedgehogLots$Plain", name := "<init>", desc := "()V" } : Jvm.MethodName) prog_5_method_1_code (1 : Nat) (Option.none : Option Jvm.ClassFile.FieldType)) ∈ lw_all := lw_g (lw_at lw_m1 39 rfl) rfl
theorem q99 : (Jvm.Cond.methodLink "HedgehogLots$Plain" (1 : Nat) ({ cls := "java/lang/Object", name := "<init>", desc := "()V" } : Jvm.MethodName)) ∈ lw_all := lw_g (lw_at lw_m1 40 rfl) rfl
theorem q100 : (Jvm.Cond.superclass "HedgehogLots$Plain" "java/lang/Object") ∈ lw_all := lw_g (lw_at lw_m1 41 rfl) rfl
theorem q547 : (Jvm.Cond.instanceMethod ({ cls := "HedgehogLots$Plain", name := "loses", desc := "()I" } : Jvm.MethodName)) ∈ lw_all := lw_g (lw_at lw_m3 8 rfl) rfl
theorem q548 : (Jvm.Cond.selects "HedgehogLots$Plain" ({ cls := "HedgehogLots$Plain", name := "loses", desc := "()I" } : Jvm.MethodName) ({ cls := "HedgehogLots$Plain", name := "loses", desc := "()I" } : Jvm.MethodName)) ∈ lw_all := lw_g (lw_at lw_m3 9 rfl) rfl
theorem q549 : (Jvm.Cond.sameMethod "HedgehogLots$Plain" "HedgehogLots$Plain" "loses" "()I") ∈ lw_all := lw_g (lw_at lw_m3 10 rfl) rfl
theorem q557 : (Jvm.Cond.code ({ cls := "HedgehogLots$Plain", name := "loses", desc := "()I" } : Jvm.MethodName) prog_5_method_2_code (1 : Nat) (Option.some Jvm.ClassFile.FieldType.int)) ∈ lw_all := lw_g (lw_at lw_m3 18 rfl) rfl
theorem q564 : (Jvm.Cond.instanceMethod ({ cls := "HedgehogLots$Plain", name := "turns", desc := "(I)I" } : Jvm.MethodName)) ∈ lw_all := lw_g (lw_at lw_m3 25 rfl) rfl
theorem q565 : (Jvm.Cond.selects "HedgehogLots$Plain" ({ cls := "HedgehogLots$Plain", name := "turns", desc := "(I)I" } : Jvm.MethodName) ({ cls := "HedgehogLots$Plain", name := "turns", desc := "(I)I" } : Jvm.MethodName)) ∈ lw_all := lw_g (lw_at lw_m3 26 rfl) rfl
theorem q566 : (Jvm.Cond.sameMethod "HedgehogLots$Plain" "HedgehogLots$Plain" "turns" "(I)I") ∈ lw_all := lw_g (lw_at lw_m3 27 rfl) rfl
theorem q574 : (Jvm.Cond.code ({ cls := "HedgehogLots$Plain", name := "turns", desc := "(I)I" } : Jvm.MethodName) prog_5_method_3_code (2 : Nat) (Option.some Jvm.ClassFile.FieldType.int)) ∈ lw_all := lw_g (lw_at lw_m3 35 rfl) rfl
/-! HedgehogLots$Fat -/
set_option maxRecDepth 100000
def RX2 : String := "HedgehogLots$Fat"
abbrev cX2_init : ByteArray := prog_3_method_1_code
def yX2_init : MethodName := ⟨RX2, "<init>", "()V"⟩
theorem dX2_init_0 : decode cX2_init 0 = .ok (.aload_n 0, 1) := by decide +kernel
theorem dX2_init_1 : decode cX2_init 1 = .ok (.invokespecial 1, 3) := by decide +kernel
theorem dX2_init_4 : decode cX2_init 4 = .ok (.return_, 1) := by decide +kernel
abbrev cX2_loses : ByteArray := prog_3_method_2_code
def yX2_loses : MethodName := ⟨RX2, "loses", "()I"⟩
def dkwX2_loses_0 : List UInt8 := [42, 183, 0, 7, 4, 96, 172]
abbrev dktX2_loses_0 : List UInt8 := dkwX2_loses_0 ++ []
theorem dksX2_loses_0 : cX2_loses.data.toList.drop 0 = dktX2_loses_0 := by decide +kernel
theorem dX2_loses_0 : decode cX2_loses 0 = .ok (.aload_n 0, 1) := dk_42 (dk_at dksX2_loses_0 0 rfl rfl)
theorem dX2_loses_1 : decode cX2_loses 1 = .ok (.invokespecial 7, 3) := dk_183 0 7 (dk_at dksX2_loses_0 1 rfl rfl)
theorem dX2_loses_4 : decode cX2_loses 4 = .ok (.iconst 1, 1) := dk_4 (dk_at dksX2_loses_0 4 rfl rfl)
theorem dX2_loses_5 : decode cX2_loses 5 = .ok (.iadd, 1) := dk_96 (dk_at dksX2_loses_0 5 rfl rfl)
theorem dX2_loses_6 : decode cX2_loses 6 = .ok (.ireturn, 1) := dk_172 (dk_at dksX2_loses_0 6 rfl rfl)
abbrev cX2_turns : ByteArray := prog_3_method_3_code
def yX2_turns : MethodName := ⟨RX2, "turns", "(I)I"⟩
def dkwX2_turns_0 : List UInt8 := [42, 27, 183, 0, 11, 116, 172]
abbrev dktX2_turns_0 : List UInt8 := dkwX2_turns_0 ++ []
theorem dksX2_turns_0 : cX2_turns.data.toList.drop 0 = dktX2_turns_0 := by decide +kernel
theorem dX2_turns_0 : decode cX2_turns 0 = .ok (.aload_n 0, 1) := dk_42 (dk_at dksX2_turns_0 0 rfl rfl)
theorem dX2_turns_1 : decode cX2_turns 1 = .ok (.iload_n 1, 1) := dk_27 (dk_at dksX2_turns_0 1 rfl rfl)
theorem dX2_turns_2 : decode cX2_turns 2 = .ok (.invokespecial 11, 3) := dk_183 0 11 (dk_at dksX2_turns_0 2 rfl rfl)
theorem dX2_turns_5 : decode cX2_turns 5 = .ok (.ineg, 1) := dk_116 (dk_at dksX2_turns_0 5 rfl rfl)
theorem dX2_turns_6 : decode cX2_turns 6 = .ok (.ireturn, 1) := dk_172 (dk_at dksX2_turns_0 6 rfl rfl)
theorem q62 : (Jvm.Cond.initialized "HedgehogLots$Fat") ∈ lw_all := lw_g (lw_at lw_m1 3 rfl) rfl
theorem q102 : (Jvm.Cond.instantiable "HedgehogLots$Fat" (0 : Nat)) ∈ lw_all := lw_g (lw_at lw_m1 43 rfl) rfl
theorem q104 : (Jvm.Cond.instanceMethod ({ cls := "HedgehogLots$Fat", name := "<init>", desc := "()V" } : Jvm.MethodName)) ∈ lw_all := lw_g (lw_at lw_m1 45 rfl) rfl
theorem q105 : (Jvm.Cond.code ({ cls := "HedgehogLots$Fat", name := "<init>", desc := "()V" } : Jvm.MethodName) prog_3_method_1_code (1 : Nat) (Option.none : Option Jvm.ClassFile.FieldType)) ∈ lw_all := lw_g (lw_at lw_m1 46 rfl) rfl
theorem q106 : (Jvm.Cond.methodLinkNest "HedgehogLots$Fat" (1 : Nat) ({ cls := "HedgehogLots$Plain", name := "<init>", desc := "()V" } : Jvm.MethodName) "HedgehogLots") ∈ lw_tbl := lw_at lw_m1 47 rfl
theorem q107 : (Jvm.Cond.superclass "HedgehogLots$Fat" "HedgehogLots$Plain") ∈ lw_all := lw_g (lw_at lw_m1 48 rfl) rfl
theorem q554 : (Jvm.Cond.instanceMethod ({ cls := "HedgehogLots$Fat", name := "loses", desc := "()I" } : Jvm.MethodName)) ∈ lw_all := lw_g (lw_at lw_m3 15 rfl) rfl
theorem q555 : (Jvm.Cond.code ({ cls := "HedgehogLots$Fat", name := "loses", desc := "()I" } : Jvm.MethodName) prog_3_method_2_code (1 : Nat) (Option.some Jvm.ClassFile.FieldType.int)) ∈ lw_all := lw_g (lw_at lw_m3 16 rfl) rfl
theorem q556 : (Jvm.Cond.methodLink "HedgehogLots$Fat" (7 : Nat) ({ cls := "HedgehogLots$Plain", name := "loses", desc := "()I" } : Jvm.MethodName)) ∈ lw_all := lw_g (lw_at lw_m3 17 rfl) rfl
theorem q558 : (Jvm.Cond.selects "HedgehogLots$Fat" ({ cls := "HedgehogLots$Plain", name := "loses", desc := "()I" } : Jvm.MethodName) ({ cls := "HedgehogLots$Fat", name := "loses", desc := "()I" } : Jvm.MethodName)) ∈ lw_all := lw_g (lw_at lw_m3 19 rfl) rfl
theorem q571 : (Jvm.Cond.instanceMethod ({ cls := "HedgehogLots$Fat", name := "turns", desc := "(I)I" } : Jvm.MethodName)) ∈ lw_all := lw_g (lw_at lw_m3 32 rfl) rfl
theorem q572 : (Jvm.Cond.code ({ cls := "HedgehogLots$Fat", name := "turns", desc := "(I)I" } : Jvm.MethodName) prog_3_method_3_code (2 : Nat) (Option.some Jvm.ClassFile.FieldType.int)) ∈ lw_all := lw_g (lw_at lw_m3 33 rfl) rfl
theorem q573 : (Jvm.Cond.methodLink "HedgehogLots$Fat" (11 : Nat) ({ cls := "HedgehogLots$Plain", name := "turns", desc := "(I)I" } : Jvm.MethodName)) ∈ lw_all := lw_g (lw_at lw_m3 34 rfl) rfl
theorem q575 : (Jvm.Cond.selects "HedgehogLots$Fat" ({ cls := "HedgehogLots$Plain", name := "turns", desc := "(I)I" } : Jvm.MethodName) ({ cls := "HedgehogLots$Fat", name := "turns", desc := "(I)I" } : Jvm.MethodName)) ∈ lw_all := lw_g (lw_at lw_m3 36 rfl) rfl
theorem q1376 : (Jvm.Cond.sameMethod "HedgehogLots$Fat" "HedgehogLots$Fat" "loses" "()I") ∈ lw_all := lw_g (lw_at lw_m6 117 rfl) rfl
theorem q1377 : (Jvm.Cond.sameMethod "HedgehogLots$Fat" "HedgehogLots$Fat" "turns" "(I)I") ∈ lw_all := lw_g (lw_at lw_m6 118 rfl) rfl
theorem q1379 : (Jvm.Cond.castable "HedgehogLots$Fat" "HedgehogLots$Plain") ∈ lw_tbl := lw_at lw_m6 120 rfl
/-! HedgehogLots$Young -/
set_option maxRecDepth 100000
def RX3 : String := "HedgehogLots$Young"
abbrev cX3_init : ByteArray := prog_9_method_1_code
def yX3_init : MethodName := ⟨RX3, "<init>", "()V"⟩
theorem dX3_init_0 : decode cX3_init 0 = .ok (.aload_n 0, 1) := by decide +kernel
theorem dX3_init_1 : decode cX3_init 1 = .ok (.invokespecial 1, 3) := by decide +kernel
theorem dX3_init_4 : decode cX3_init 4 = .ok (.return_, 1) := by decide +kernel
abbrev cX3_loses : ByteArray := prog_9_method_2_code
def yX3_loses : MethodName := ⟨RX3, "loses", "()I"⟩
def dkwX3_loses_0 : List UInt8 := [42, 183, 0, 7, 5, 108, 172]
abbrev dktX3_loses_0 : List UInt8 := dkwX3_loses_0 ++ []
theorem dksX3_loses_0 : cX3_loses.data.toList.drop 0 = dktX3_loses_0 := by decide +kernel
theorem dX3_loses_0 : decode cX3_loses 0 = .ok (.aload_n 0, 1) := dk_42 (dk_at dksX3_loses_0 0 rfl rfl)
theorem dX3_loses_1 : decode cX3_loses 1 = .ok (.invokespecial 7, 3) := dk_183 0 7 (dk_at dksX3_loses_0 1 rfl rfl)
theorem dX3_loses_4 : decode cX3_loses 4 = .ok (.iconst 2, 1) := dk_5 (dk_at dksX3_loses_0 4 rfl rfl)
theorem dX3_loses_5 : decode cX3_loses 5 = .ok (.idiv, 1) := dk_108 (dk_at dksX3_loses_0 5 rfl rfl)
theorem dX3_loses_6 : decode cX3_loses 6 = .ok (.ireturn, 1) := dk_172 (dk_at dksX3_loses_0 6 rfl rfl)
abbrev cX3_turns : ByteArray := prog_9_method_3_code
def yX3_turns : MethodName := ⟨RX3, "turns", "(I)I"⟩
def dkwX3_turns_0 : List UInt8 := [42, 27, 183, 0, 11, 184, 0, 15, 172]
abbrev dktX3_turns_0 : List UInt8 := dkwX3_turns_0 ++ []
theorem dksX3_turns_0 : cX3_turns.data.toList.drop 0 = dktX3_turns_0 := by decide +kernel
theorem dX3_turns_0 : decode cX3_turns 0 = .ok (.aload_n 0, 1) := dk_42 (dk_at dksX3_turns_0 0 rfl rfl)
theorem dX3_turns_1 : decode cX3_turns 1 = .ok (.iload_n 1, 1) := dk_27 (dk_at dksX3_turns_0 1 rfl rfl)
theorem dX3_turns_2 : decode cX3_turns 2 = .ok (.invokespecial 11, 3) := dk_183 0 11 (dk_at dksX3_turns_0 2 rfl rfl)
theorem dX3_turns_5 : decode cX3_turns 5 = .ok (.invokestatic 15, 3) := dk_184 0 15 (dk_at dksX3_turns_0 5 rfl rfl)
theorem dX3_turns_8 : decode cX3_turns 8 = .ok (.ireturn, 1) := dk_172 (dk_at dksX3_turns_0 8 rfl rfl)
theorem q63 : (Jvm.Cond.initialized "HedgehogLots$Young") ∈ lw_all := lw_g (lw_at lw_m1 4 rfl) rfl
theorem q109 : (Jvm.Cond.instantiable "HedgehogLots$Young" (0 : Nat)) ∈ lw_all := lw_g (lw_at lw_m1 50 rfl) rfl
theorem q111 : (Jvm.Cond.instanceMethod ({ cls := "HedgehogLots$Young", name := "<init>", desc := "()V" } : Jvm.MethodName)) ∈ lw_all := lw_g (lw_at lw_m1 52 rfl) rfl
theorem q112 : (Jvm.Cond.code ({ cls := "HedgehogLots$Young", name := "<init>", desc := "()V" } : Jvm.MethodName) prog_9_method_1_code (1 : Nat) (Option.none : Option Jvm.ClassFile.FieldType)) ∈ lw_all := lw_g (lw_at lw_m1 53 rfl) rfl
theorem q113 : (Jvm.Cond.methodLinkNest "HedgehogLots$Young" (1 : Nat) ({ cls := "HedgehogLots$Plain", name := "<init>", desc := "()V" } : Jvm.MethodName) "HedgehogLots") ∈ lw_tbl := lw_at lw_m1 54 rfl
theorem q114 : (Jvm.Cond.superclass "HedgehogLots$Young" "HedgehogLots$Plain") ∈ lw_all := lw_g (lw_at lw_m1 55 rfl) rfl
theorem q559 : (Jvm.Cond.selects "HedgehogLots$Young" ({ cls := "HedgehogLots$Plain", name := "loses", desc := "()I" } : Jvm.MethodName) ({ cls := "HedgehogLots$Young", name := "loses", desc := "()I" } : Jvm.MethodName)) ∈ lw_all := lw_g (lw_at lw_m3 20 rfl) rfl
theorem q560 : (Jvm.Cond.instanceMethod ({ cls := "HedgehogLots$Young", name := "loses", desc := "()I" } : Jvm.MethodName)) ∈ lw_all := lw_g (lw_at lw_m3 21 rfl) rfl
theorem q561 : (Jvm.Cond.code ({ cls := "HedgehogLots$Young", name := "loses", desc := "()I" } : Jvm.MethodName) prog_9_method_2_code (1 : Nat) (Option.some Jvm.ClassFile.FieldType.int)) ∈ lw_all := lw_g (lw_at lw_m3 22 rfl) rfl
theorem q562 : (Jvm.Cond.methodLink "HedgehogLots$Young" (7 : Nat) ({ cls := "HedgehogLots$Plain", name := "loses", desc := "()I" } : Jvm.MethodName)) ∈ lw_all := lw_g (lw_at lw_m3 23 rfl) rfl
theorem q576 : (Jvm.Cond.selects "HedgehogLots$Young" ({ cls := "HedgehogLots$Plain", name := "turns", desc := "(I)I" } : Jvm.MethodName) ({ cls := "HedgehogLots$Young", name := "turns", desc := "(I)I" } : Jvm.MethodName)) ∈ lw_all := lw_g (lw_at lw_m3 37 rfl) rfl
theorem q577 : (Jvm.Cond.instanceMethod ({ cls := "HedgehogLots$Young", name := "turns", desc := "(I)I" } : Jvm.MethodName)) ∈ lw_all := lw_g (lw_at lw_m3 38 rfl) rfl
theorem q578 : (Jvm.Cond.code ({ cls := "HedgehogLots$Young", name := "turns", desc := "(I)I" } : Jvm.MethodName) prog_9_method_3_code (2 : Nat) (Option.some Jvm.ClassFile.FieldType.int)) ∈ lw_all := lw_g (lw_at lw_m3 39 rfl) rfl
theorem q579 : (Jvm.Cond.methodLink "HedgehogLots$Young" (11 : Nat) ({ cls := "HedgehogLots$Plain", name := "turns", desc := "(I)I" } : Jvm.MethodName)) ∈ lw_all := lw_g (lw_at lw_m3 40 rfl) rfl
theorem q580 : (Jvm.Cond.methodLink "HedgehogLots$Young" (15 : Nat) ({ cls := "java/lang/Math", name := "abs", desc := "(I)I" } : Jvm.MethodName)) ∈ lw_all := lw_g (lw_at lw_m3 41 rfl) rfl
theorem q1380 : (Jvm.Cond.castable "HedgehogLots$Young" "HedgehogLots$Plain") ∈ lw_tbl := lw_at lw_m6 121 rfl
/-! HedgehogLots$Boar -/
set_option maxRecDepth 100000
def RX4 : String := "HedgehogLots$Boar"
abbrev cX4_init : ByteArray := prog_2_method_1_code
def yX4_init : MethodName := ⟨RX4, "<init>", "()V"⟩
theorem dX4_init_0 : decode cX4_init 0 = .ok (.aload_n 0, 1) := by decide +kernel
theorem dX4_init_1 : decode cX4_init 1 = .ok (.invokespecial 1, 3) := by decide +kernel
theorem dX4_init_4 : decode cX4_init 4 = .ok (.return_, 1) := by decide +kernel
abbrev cX4_loses : ByteArray := prog_2_method_2_code
def yX4_loses : MethodName := ⟨RX4, "loses", "()I"⟩
def dkwX4_loses_0 : List UInt8 := [5, 42, 183, 0, 7, 104, 172]
abbrev dktX4_loses_0 : List UInt8 := dkwX4_loses_0 ++ []
theorem dksX4_loses_0 : cX4_loses.data.toList.drop 0 = dktX4_loses_0 := by decide +kernel
theorem dX4_loses_0 : decode cX4_loses 0 = .ok (.iconst 2, 1) := dk_5 (dk_at dksX4_loses_0 0 rfl rfl)
theorem dX4_loses_1 : decode cX4_loses 1 = .ok (.aload_n 0, 1) := dk_42 (dk_at dksX4_loses_0 1 rfl rfl)
theorem dX4_loses_2 : decode cX4_loses 2 = .ok (.invokespecial 7, 3) := dk_183 0 7 (dk_at dksX4_loses_0 2 rfl rfl)
theorem dX4_loses_5 : decode cX4_loses 5 = .ok (.imul, 1) := dk_104 (dk_at dksX4_loses_0 5 rfl rfl)
theorem dX4_loses_6 : decode cX4_loses 6 = .ok (.ireturn, 1) := dk_172 (dk_at dksX4_loses_0 6 rfl rfl)
abbrev cX4_turns : ByteArray := prog_2_method_3_code
def yX4_turns : MethodName := ⟨RX4, "turns", "(I)I"⟩
def dkwX4_turns_0 : List UInt8 := [5, 42, 27, 183, 0, 11, 104, 172]
abbrev dktX4_turns_0 : List UInt8 := dkwX4_turns_0 ++ []
theorem dksX4_turns_0 : cX4_turns.data.toList.drop 0 = dktX4_turns_0 := by decide +kernel
theorem dX4_turns_0 : decode cX4_turns 0 = .ok (.iconst 2, 1) := dk_5 (dk_at dksX4_turns_0 0 rfl rfl)
theorem dX4_turns_1 : decode cX4_turns 1 = .ok (.aload_n 0, 1) := dk_42 (dk_at dksX4_turns_0 1 rfl rfl)
theorem dX4_turns_2 : decode cX4_turns 2 = .ok (.iload_n 1, 1) := dk_27 (dk_at dksX4_turns_0 2 rfl rfl)
theorem dX4_turns_3 : decode cX4_turns 3 = .ok (.invokespecial 11, 3) := dk_183 0 11 (dk_at dksX4_turns_0 3 rfl rfl)
theorem dX4_turns_6 : decode cX4_turns 6 = .ok (.imul, 1) := dk_104 (dk_at dksX4_turns_0 6 rfl rfl)
theorem dX4_turns_7 : decode cX4_turns 7 = .ok (.ireturn, 1) := dk_172 (dk_at dksX4_turns_0 7 rfl rfl)
theorem q64 : (Jvm.Cond.initialized "HedgehogLots$Boar") ∈ lw_all := lw_g (lw_at lw_m1 5 rfl) rfl
theorem q116 : (Jvm.Cond.instantiable "HedgehogLots$Boar" (0 : Nat)) ∈ lw_all := lw_g (lw_at lw_m1 57 rfl) rfl
theorem q118 : (Jvm.Cond.instanceMethod ({ cls := "HedgehogLots$Boar", name := "<init>", desc := "()V" } : Jvm.MethodName)) ∈ lw_all := lw_g (lw_at lw_m1 59 rfl) rfl
theorem q119 : (Jvm.Cond.code ({ cls := "HedgehogLots$Boar", name := "<init>", desc := "()V" } : Jvm.MethodName) prog_2_method_1_code (1 : Nat) (Option.none : Option Jvm.ClassFile.FieldType)) ∈ lw_all := lw_g (lw_at lw_m1 60 rfl) rfl
theorem q120 : (Jvm.Cond.methodLinkNest "HedgehogLots$Boar" (1 : Nat) ({ cls := "HedgehogLots$Fat", name := "<init>", desc := "()V" } : Jvm.MethodName) "HedgehogLots") ∈ lw_tbl := lw_at lw_m1 61 rfl
theorem q121 : (Jvm.Cond.superclass "HedgehogLots$Boar" "HedgehogLots$Fat") ∈ lw_all := lw_g (lw_at lw_m1 62 rfl) rfl
theorem q550 : (Jvm.Cond.selects "HedgehogLots$Boar" ({ cls := "HedgehogLots$Plain", name := "loses", desc := "()I" } : Jvm.MethodName) ({ cls := "HedgehogLots$Boar", name := "loses", desc := "()I" } : Jvm.MethodName)) ∈ lw_all := lw_g (lw_at lw_m3 11 rfl) rfl
theorem q551 : (Jvm.Cond.instanceMethod ({ cls := "HedgehogLots$Boar", name := "loses", desc := "()I" } : Jvm.MethodName)) ∈ lw_all := lw_g (lw_at lw_m3 12 rfl) rfl
theorem q552 : (Jvm.Cond.code ({ cls := "HedgehogLots$Boar", name := "loses", desc := "()I" } : Jvm.MethodName) prog_2_method_2_code (1 : Nat) (Option.some Jvm.ClassFile.FieldType.int)) ∈ lw_all := lw_g (lw_at lw_m3 13 rfl) rfl
theorem q553 : (Jvm.Cond.methodLink "HedgehogLots$Boar" (7 : Nat) ({ cls := "HedgehogLots$Fat", name := "loses", desc := "()I" } : Jvm.MethodName)) ∈ lw_all := lw_g (lw_at lw_m3 14 rfl) rfl
theorem q567 : (Jvm.Cond.selects "HedgehogLots$Boar" ({ cls := "HedgehogLots$Plain", name := "turns", desc := "(I)I" } : Jvm.MethodName) ({ cls := "HedgehogLots$Boar", name := "turns", desc := "(I)I" } : Jvm.MethodName)) ∈ lw_all := lw_g (lw_at lw_m3 28 rfl) rfl
theorem q568 : (Jvm.Cond.instanceMethod ({ cls := "HedgehogLots$Boar", name := "turns", desc := "(I)I" } : Jvm.MethodName)) ∈ lw_all := lw_g (lw_at lw_m3 29 rfl) rfl
theorem q569 : (Jvm.Cond.code ({ cls := "HedgehogLots$Boar", name := "turns", desc := "(I)I" } : Jvm.MethodName) prog_2_method_3_code (2 : Nat) (Option.some Jvm.ClassFile.FieldType.int)) ∈ lw_all := lw_g (lw_at lw_m3 30 rfl) rfl
theorem q570 : (Jvm.Cond.methodLink "HedgehogLots$Boar" (11 : Nat) ({ cls := "HedgehogLots$Fat", name := "turns", desc := "(I)I" } : Jvm.MethodName)) ∈ lw_all := lw_g (lw_at lw_m3 31 rfl) rfl
theorem q1381 : (Jvm.Cond.castable "HedgehogLots$Boar" "HedgehogLots$Plain") ∈ lw_tbl := lw_at lw_m6 122 rfl
/-! HedgehogLots$Slope -/
set_option maxRecDepth 100000
def RX5 : String := "HedgehogLots$Slope"
def TX5 : u_T := fun k => match k with
  | 0 => ("HedgehogLots$Slope", "pegs", "I", false)
  | 1 => ("HedgehogLots$Slope", "peg", "[B", true)
  | 2 => ("HedgehogLots$Slope", "rag", "[B", true)
  | 3 => ("HedgehogLots$Slope", "slugs", "I", false)
  | 4 => ("HedgehogLots$Slope", "slug", "[B", true)
  | 5 => ("HedgehogLots$Slope", "hedgehogs", "I", false)
  | 6 => ("HedgehogLots$Slope", "hedgehog", "[B", true)
  | 7 => ("HedgehogLots$Slope", "suits", "I", false)
  | _ => ("HedgehogLots$Slope", "suit", "[B", true)
def tyX5 : Nat → FieldType := fun k => match k with
  | 0 => .int
  | 1 => .array .byte
  | 2 => .array .byte
  | 3 => .int
  | 4 => .array .byte
  | 5 => .int
  | 6 => .array .byte
  | 7 => .int
  | _ => .array .byte
abbrev wsX50 : List Cond := u_ws RX5 TX5 9
theorem nmX5 : ∀ a, a < 9 → ∀ b, b < 9 → a ≠ b → (TX5 a).2.1 ≠ (TX5 b).2.1 := by decide +kernel
theorem tyX5_ok : ∀ k, k < 9 → parseFieldDescriptor (TX5 k).2.2.1 = some (tyX5 k) := by decide +kernel
abbrev cX5_init : ByteArray := prog_8_method_1_code
def yX5_init : MethodName := ⟨RX5, "<init>", "()V"⟩
def dkwX5_init_1 : List UInt8 := [181, 0, 18, 42, 16, 8, 188, 8, 181, 0, 21, 42, 16, 12, 188, 8, 181, 0, 24, 177]
abbrev dktX5_init_1 : List UInt8 := dkwX5_init_1 ++ []
def dkwX5_init_0 : List UInt8 := [42, 183, 0, 3, 42, 16, 7, 188, 8, 181, 0, 9, 42, 16, 7, 188, 8, 181, 0, 15, 42, 7, 188, 8]
abbrev dktX5_init_0 : List UInt8 := dkwX5_init_0 ++ dktX5_init_1
theorem dksX5_init_0 : cX5_init.data.toList.drop 0 = dktX5_init_0 := by decide +kernel
theorem dksX5_init_1 : cX5_init.data.toList.drop 24 = dktX5_init_1 := dk_seg dksX5_init_0 24 rfl rfl
theorem dX5_init_0 : decode cX5_init 0 = .ok (.aload_n 0, 1) := dk_42 (dk_at dksX5_init_0 0 rfl rfl)
theorem dX5_init_1 : decode cX5_init 1 = .ok (.invokespecial 3, 3) := dk_183 0 3 (dk_at dksX5_init_0 1 rfl rfl)
theorem dX5_init_4 : decode cX5_init 4 = .ok (.aload_n 0, 1) := dk_42 (dk_at dksX5_init_0 4 rfl rfl)
theorem dX5_init_5 : decode cX5_init 5 = .ok (.bipush 7, 2) := dk_16 7 (dk_at dksX5_init_0 5 rfl rfl)
theorem dX5_init_7 : decode cX5_init 7 = .ok (.newarray .byte, 2) := dk_188_8 (dk_at dksX5_init_0 7 rfl rfl)
theorem dX5_init_9 : decode cX5_init 9 = .ok (.putfield 9, 3) := dk_181 0 9 (dk_at dksX5_init_0 9 rfl rfl)
theorem dX5_init_12 : decode cX5_init 12 = .ok (.aload_n 0, 1) := dk_42 (dk_at dksX5_init_0 12 rfl rfl)
theorem dX5_init_13 : decode cX5_init 13 = .ok (.bipush 7, 2) := dk_16 7 (dk_at dksX5_init_0 13 rfl rfl)
theorem dX5_init_15 : decode cX5_init 15 = .ok (.newarray .byte, 2) := dk_188_8 (dk_at dksX5_init_0 15 rfl rfl)
theorem dX5_init_17 : decode cX5_init 17 = .ok (.putfield 15, 3) := dk_181 0 15 (dk_at dksX5_init_0 17 rfl rfl)
theorem dX5_init_20 : decode cX5_init 20 = .ok (.aload_n 0, 1) := dk_42 (dk_at dksX5_init_0 20 rfl rfl)
theorem dX5_init_21 : decode cX5_init 21 = .ok (.iconst 4, 1) := dk_7 (dk_at dksX5_init_0 21 rfl rfl)
theorem dX5_init_22 : decode cX5_init 22 = .ok (.newarray .byte, 2) := dk_188_8 (dk_at dksX5_init_0 22 rfl rfl)
theorem dX5_init_24 : decode cX5_init 24 = .ok (.putfield 18, 3) := dk_181 0 18 (dk_at dksX5_init_1 0 rfl rfl)
theorem dX5_init_27 : decode cX5_init 27 = .ok (.aload_n 0, 1) := dk_42 (dk_at dksX5_init_1 3 rfl rfl)
theorem dX5_init_28 : decode cX5_init 28 = .ok (.bipush 8, 2) := dk_16 8 (dk_at dksX5_init_1 4 rfl rfl)
theorem dX5_init_30 : decode cX5_init 30 = .ok (.newarray .byte, 2) := dk_188_8 (dk_at dksX5_init_1 6 rfl rfl)
theorem dX5_init_32 : decode cX5_init 32 = .ok (.putfield 21, 3) := dk_181 0 21 (dk_at dksX5_init_1 8 rfl rfl)
theorem dX5_init_35 : decode cX5_init 35 = .ok (.aload_n 0, 1) := dk_42 (dk_at dksX5_init_1 11 rfl rfl)
theorem dX5_init_36 : decode cX5_init 36 = .ok (.bipush 12, 2) := dk_16 12 (dk_at dksX5_init_1 12 rfl rfl)
theorem dX5_init_38 : decode cX5_init 38 = .ok (.newarray .byte, 2) := dk_188_8 (dk_at dksX5_init_1 14 rfl rfl)
theorem dX5_init_40 : decode cX5_init 40 = .ok (.putfield 24, 3) := dk_181 0 24 (dk_at dksX5_init_1 16 rfl rfl)
theorem dX5_init_43 : decode cX5_init 43 = .ok (.return_, 1) := dk_177 (dk_at dksX5_init_1 19 rfl rfl)
abbrev cX5_isFree : ByteArray := prog_8_method_5_code
def yX5_isFree : MethodName := ⟨RX5, "isFree", "(I)Z"⟩
def dkwX5_isFree_0 : List UInt8 := [42, 27, 182, 0, 46, 16, 252, 160, 0, 15, 42, 27, 182, 0, 50, 154, 0, 7, 4, 167, 0, 4, 3, 172]
abbrev dktX5_isFree_0 : List UInt8 := dkwX5_isFree_0 ++ []
theorem dksX5_isFree_0 : cX5_isFree.data.toList.drop 0 = dktX5_isFree_0 := by decide +kernel
theorem dX5_isFree_0 : decode cX5_isFree 0 = .ok (.aload_n 0, 1) := dk_42 (dk_at dksX5_isFree_0 0 rfl rfl)
theorem dX5_isFree_1 : decode cX5_isFree 1 = .ok (.iload_n 1, 1) := dk_27 (dk_at dksX5_isFree_0 1 rfl rfl)
theorem dX5_isFree_2 : decode cX5_isFree 2 = .ok (.invokevirtual 46, 3) := dk_182 0 46 (dk_at dksX5_isFree_0 2 rfl rfl)
theorem dX5_isFree_5 : decode cX5_isFree 5 = .ok (.bipush (-4), 2) := dk_16 252 (dk_at dksX5_isFree_0 5 rfl rfl)
theorem dX5_isFree_7 : decode cX5_isFree 7 = .ok (.if_icmp .ne 15, 3) := dk_160 0 15 (dk_at dksX5_isFree_0 7 rfl rfl)
theorem dX5_isFree_10 : decode cX5_isFree 10 = .ok (.aload_n 0, 1) := dk_42 (dk_at dksX5_isFree_0 10 rfl rfl)
theorem dX5_isFree_11 : decode cX5_isFree 11 = .ok (.iload_n 1, 1) := dk_27 (dk_at dksX5_isFree_0 11 rfl rfl)
theorem dX5_isFree_12 : decode cX5_isFree 12 = .ok (.invokevirtual 50, 3) := dk_182 0 50 (dk_at dksX5_isFree_0 12 rfl rfl)
theorem dX5_isFree_15 : decode cX5_isFree 15 = .ok (.ifCond .ne 7, 3) := dk_154 0 7 (dk_at dksX5_isFree_0 15 rfl rfl)
theorem dX5_isFree_18 : decode cX5_isFree 18 = .ok (.iconst 1, 1) := dk_4 (dk_at dksX5_isFree_0 18 rfl rfl)
theorem dX5_isFree_19 : decode cX5_isFree 19 = .ok (.goto 4, 3) := dk_167 0 4 (dk_at dksX5_isFree_0 19 rfl rfl)
theorem dX5_isFree_22 : decode cX5_isFree 22 = .ok (.iconst 0, 1) := dk_3 (dk_at dksX5_isFree_0 22 rfl rfl)
theorem dX5_isFree_23 : decode cX5_isFree 23 = .ok (.ireturn, 1) := dk_172 (dk_at dksX5_isFree_0 23 rfl rfl)
abbrev cX5_pegIn : ByteArray := prog_8_method_3_code
def yX5_pegIn : MethodName := ⟨RX5, "pegIn", "(I)I"⟩
def dkwX5_pegIn_1 : List UInt8 := [167, 0, 4, 28, 61, 132, 3, 1, 167, 255, 229, 28, 172]
abbrev dktX5_pegIn_1 : List UInt8 := dkwX5_pegIn_1 ++ []
def dkwX5_pegIn_0 : List UInt8 := [16, 252, 61, 3, 62, 29, 42, 180, 0, 27, 162, 0, 25, 42, 180, 0, 9, 29, 51, 27, 160, 0, 7, 29]
abbrev dktX5_pegIn_0 : List UInt8 := dkwX5_pegIn_0 ++ dktX5_pegIn_1
theorem dksX5_pegIn_0 : cX5_pegIn.data.toList.drop 0 = dktX5_pegIn_0 := by decide +kernel
theorem dksX5_pegIn_1 : cX5_pegIn.data.toList.drop 24 = dktX5_pegIn_1 := dk_seg dksX5_pegIn_0 24 rfl rfl
theorem dX5_pegIn_0 : decode cX5_pegIn 0 = .ok (.bipush (-4), 2) := dk_16 252 (dk_at dksX5_pegIn_0 0 rfl rfl)
theorem dX5_pegIn_2 : decode cX5_pegIn 2 = .ok (.istore_n 2, 1) := dk_61 (dk_at dksX5_pegIn_0 2 rfl rfl)
theorem dX5_pegIn_3 : decode cX5_pegIn 3 = .ok (.iconst 0, 1) := dk_3 (dk_at dksX5_pegIn_0 3 rfl rfl)
theorem dX5_pegIn_4 : decode cX5_pegIn 4 = .ok (.istore_n 3, 1) := dk_62 (dk_at dksX5_pegIn_0 4 rfl rfl)
theorem dX5_pegIn_5 : decode cX5_pegIn 5 = .ok (.iload_n 3, 1) := dk_29 (dk_at dksX5_pegIn_0 5 rfl rfl)
theorem dX5_pegIn_6 : decode cX5_pegIn 6 = .ok (.aload_n 0, 1) := dk_42 (dk_at dksX5_pegIn_0 6 rfl rfl)
theorem dX5_pegIn_7 : decode cX5_pegIn 7 = .ok (.getfield 27, 3) := dk_180 0 27 (dk_at dksX5_pegIn_0 7 rfl rfl)
theorem dX5_pegIn_10 : decode cX5_pegIn 10 = .ok (.if_icmp .ge 25, 3) := dk_162 0 25 (dk_at dksX5_pegIn_0 10 rfl rfl)
theorem dX5_pegIn_13 : decode cX5_pegIn 13 = .ok (.aload_n 0, 1) := dk_42 (dk_at dksX5_pegIn_0 13 rfl rfl)
theorem dX5_pegIn_14 : decode cX5_pegIn 14 = .ok (.getfield 9, 3) := dk_180 0 9 (dk_at dksX5_pegIn_0 14 rfl rfl)
theorem dX5_pegIn_17 : decode cX5_pegIn 17 = .ok (.iload_n 3, 1) := dk_29 (dk_at dksX5_pegIn_0 17 rfl rfl)
theorem dX5_pegIn_18 : decode cX5_pegIn 18 = .ok (.baload, 1) := dk_51 (dk_at dksX5_pegIn_0 18 rfl rfl)
theorem dX5_pegIn_19 : decode cX5_pegIn 19 = .ok (.iload_n 1, 1) := dk_27 (dk_at dksX5_pegIn_0 19 rfl rfl)
theorem dX5_pegIn_20 : decode cX5_pegIn 20 = .ok (.if_icmp .ne 7, 3) := dk_160 0 7 (dk_at dksX5_pegIn_0 20 rfl rfl)
theorem dX5_pegIn_23 : decode cX5_pegIn 23 = .ok (.iload_n 3, 1) := dk_29 (dk_at dksX5_pegIn_0 23 rfl rfl)
theorem dX5_pegIn_24 : decode cX5_pegIn 24 = .ok (.goto 4, 3) := dk_167 0 4 (dk_at dksX5_pegIn_1 0 rfl rfl)
theorem dX5_pegIn_27 : decode cX5_pegIn 27 = .ok (.iload_n 2, 1) := dk_28 (dk_at dksX5_pegIn_1 3 rfl rfl)
theorem dX5_pegIn_28 : decode cX5_pegIn 28 = .ok (.istore_n 2, 1) := dk_61 (dk_at dksX5_pegIn_1 4 rfl rfl)
theorem dX5_pegIn_29 : decode cX5_pegIn 29 = .ok (.iinc 3 1, 3) := dk_132 3 1 (dk_at dksX5_pegIn_1 5 rfl rfl)
theorem dX5_pegIn_32 : decode cX5_pegIn 32 = .ok (.goto (-27), 3) := dk_167 255 229 (dk_at dksX5_pegIn_1 8 rfl rfl)
theorem dX5_pegIn_35 : decode cX5_pegIn 35 = .ok (.iload_n 2, 1) := dk_28 (dk_at dksX5_pegIn_1 11 rfl rfl)
theorem dX5_pegIn_36 : decode cX5_pegIn 36 = .ok (.ireturn, 1) := dk_172 (dk_at dksX5_pegIn_1 12 rfl rfl)
abbrev cX5_isSlugIn : ByteArray := prog_8_method_4_code
def yX5_isSlugIn : MethodName := ⟨RX5, "isSlugIn", "(I)Z"⟩
def dkwX5_isSlugIn_1 : List UInt8 := [167, 0, 4, 3, 128, 61, 132, 3, 1, 167, 255, 227, 28, 172]
abbrev dktX5_isSlugIn_1 : List UInt8 := dkwX5_isSlugIn_1 ++ []
def dkwX5_isSlugIn_0 : List UInt8 := [3, 61, 3, 62, 29, 42, 180, 0, 37, 162, 0, 27, 28, 42, 180, 0, 18, 29, 51, 27, 160, 0, 7, 4]
abbrev dktX5_isSlugIn_0 : List UInt8 := dkwX5_isSlugIn_0 ++ dktX5_isSlugIn_1
theorem dksX5_isSlugIn_0 : cX5_isSlugIn.data.toList.drop 0 = dktX5_isSlugIn_0 := by decide +kernel
theorem dksX5_isSlugIn_1 : cX5_isSlugIn.data.toList.drop 24 = dktX5_isSlugIn_1 := dk_seg dksX5_isSlugIn_0 24 rfl rfl
theorem dX5_isSlugIn_0 : decode cX5_isSlugIn 0 = .ok (.iconst 0, 1) := dk_3 (dk_at dksX5_isSlugIn_0 0 rfl rfl)
theorem dX5_isSlugIn_1 : decode cX5_isSlugIn 1 = .ok (.istore_n 2, 1) := dk_61 (dk_at dksX5_isSlugIn_0 1 rfl rfl)
theorem dX5_isSlugIn_2 : decode cX5_isSlugIn 2 = .ok (.iconst 0, 1) := dk_3 (dk_at dksX5_isSlugIn_0 2 rfl rfl)
theorem dX5_isSlugIn_3 : decode cX5_isSlugIn 3 = .ok (.istore_n 3, 1) := dk_62 (dk_at dksX5_isSlugIn_0 3 rfl rfl)
theorem dX5_isSlugIn_4 : decode cX5_isSlugIn 4 = .ok (.iload_n 3, 1) := dk_29 (dk_at dksX5_isSlugIn_0 4 rfl rfl)
theorem dX5_isSlugIn_5 : decode cX5_isSlugIn 5 = .ok (.aload_n 0, 1) := dk_42 (dk_at dksX5_isSlugIn_0 5 rfl rfl)
theorem dX5_isSlugIn_6 : decode cX5_isSlugIn 6 = .ok (.getfield 37, 3) := dk_180 0 37 (dk_at dksX5_isSlugIn_0 6 rfl rfl)
theorem dX5_isSlugIn_9 : decode cX5_isSlugIn 9 = .ok (.if_icmp .ge 27, 3) := dk_162 0 27 (dk_at dksX5_isSlugIn_0 9 rfl rfl)
theorem dX5_isSlugIn_12 : decode cX5_isSlugIn 12 = .ok (.iload_n 2, 1) := dk_28 (dk_at dksX5_isSlugIn_0 12 rfl rfl)
theorem dX5_isSlugIn_13 : decode cX5_isSlugIn 13 = .ok (.aload_n 0, 1) := dk_42 (dk_at dksX5_isSlugIn_0 13 rfl rfl)
theorem dX5_isSlugIn_14 : decode cX5_isSlugIn 14 = .ok (.getfield 18, 3) := dk_180 0 18 (dk_at dksX5_isSlugIn_0 14 rfl rfl)
theorem dX5_isSlugIn_17 : decode cX5_isSlugIn 17 = .ok (.iload_n 3, 1) := dk_29 (dk_at dksX5_isSlugIn_0 17 rfl rfl)
theorem dX5_isSlugIn_18 : decode cX5_isSlugIn 18 = .ok (.baload, 1) := dk_51 (dk_at dksX5_isSlugIn_0 18 rfl rfl)
theorem dX5_isSlugIn_19 : decode cX5_isSlugIn 19 = .ok (.iload_n 1, 1) := dk_27 (dk_at dksX5_isSlugIn_0 19 rfl rfl)
theorem dX5_isSlugIn_20 : decode cX5_isSlugIn 20 = .ok (.if_icmp .ne 7, 3) := dk_160 0 7 (dk_at dksX5_isSlugIn_0 20 rfl rfl)
theorem dX5_isSlugIn_23 : decode cX5_isSlugIn 23 = .ok (.iconst 1, 1) := dk_4 (dk_at dksX5_isSlugIn_0 23 rfl rfl)
theorem dX5_isSlugIn_24 : decode cX5_isSlugIn 24 = .ok (.goto 4, 3) := dk_167 0 4 (dk_at dksX5_isSlugIn_1 0 rfl rfl)
theorem dX5_isSlugIn_27 : decode cX5_isSlugIn 27 = .ok (.iconst 0, 1) := dk_3 (dk_at dksX5_isSlugIn_1 3 rfl rfl)
theorem dX5_isSlugIn_28 : decode cX5_isSlugIn 28 = .ok (.ior, 1) := dk_128 (dk_at dksX5_isSlugIn_1 4 rfl rfl)
theorem dX5_isSlugIn_29 : decode cX5_isSlugIn 29 = .ok (.istore_n 2, 1) := dk_61 (dk_at dksX5_isSlugIn_1 5 rfl rfl)
theorem dX5_isSlugIn_30 : decode cX5_isSlugIn 30 = .ok (.iinc 3 1, 3) := dk_132 3 1 (dk_at dksX5_isSlugIn_1 6 rfl rfl)
theorem dX5_isSlugIn_33 : decode cX5_isSlugIn 33 = .ok (.goto (-29), 3) := dk_167 255 227 (dk_at dksX5_isSlugIn_1 9 rfl rfl)
theorem dX5_isSlugIn_36 : decode cX5_isSlugIn 36 = .ok (.iload_n 2, 1) := dk_28 (dk_at dksX5_isSlugIn_1 12 rfl rfl)
theorem dX5_isSlugIn_37 : decode cX5_isSlugIn 37 = .ok (.ireturn, 1) := dk_172 (dk_at dksX5_isSlugIn_1 13 rfl rfl)
abbrev cX5_drives : ByteArray := prog_8_method_6_code
def yX5_drives : MethodName := ⟨RX5, "drives", "(II)V"⟩
def dkwX5_drives_1 : List UInt8 := [180, 0, 27, 4, 96, 181, 0, 27, 177]
abbrev dktX5_drives_1 : List UInt8 := dkwX5_drives_1 ++ []
def dkwX5_drives_0 : List UInt8 := [42, 180, 0, 9, 42, 180, 0, 27, 27, 145, 84, 42, 180, 0, 15, 42, 180, 0, 27, 28, 145, 84, 42, 89]
abbrev dktX5_drives_0 : List UInt8 := dkwX5_drives_0 ++ dktX5_drives_1
theorem dksX5_drives_0 : cX5_drives.data.toList.drop 0 = dktX5_drives_0 := by decide +kernel
theorem dksX5_drives_1 : cX5_drives.data.toList.drop 24 = dktX5_drives_1 := dk_seg dksX5_drives_0 24 rfl rfl
theorem dX5_drives_0 : decode cX5_drives 0 = .ok (.aload_n 0, 1) := dk_42 (dk_at dksX5_drives_0 0 rfl rfl)
theorem dX5_drives_1 : decode cX5_drives 1 = .ok (.getfield 9, 3) := dk_180 0 9 (dk_at dksX5_drives_0 1 rfl rfl)
theorem dX5_drives_4 : decode cX5_drives 4 = .ok (.aload_n 0, 1) := dk_42 (dk_at dksX5_drives_0 4 rfl rfl)
theorem dX5_drives_5 : decode cX5_drives 5 = .ok (.getfield 27, 3) := dk_180 0 27 (dk_at dksX5_drives_0 5 rfl rfl)
theorem dX5_drives_8 : decode cX5_drives 8 = .ok (.iload_n 1, 1) := dk_27 (dk_at dksX5_drives_0 8 rfl rfl)
theorem dX5_drives_9 : decode cX5_drives 9 = .ok (.i2b, 1) := dk_145 (dk_at dksX5_drives_0 9 rfl rfl)
theorem dX5_drives_10 : decode cX5_drives 10 = .ok (.bastore, 1) := dk_84 (dk_at dksX5_drives_0 10 rfl rfl)
theorem dX5_drives_11 : decode cX5_drives 11 = .ok (.aload_n 0, 1) := dk_42 (dk_at dksX5_drives_0 11 rfl rfl)
theorem dX5_drives_12 : decode cX5_drives 12 = .ok (.getfield 15, 3) := dk_180 0 15 (dk_at dksX5_drives_0 12 rfl rfl)
theorem dX5_drives_15 : decode cX5_drives 15 = .ok (.aload_n 0, 1) := dk_42 (dk_at dksX5_drives_0 15 rfl rfl)
theorem dX5_drives_16 : decode cX5_drives 16 = .ok (.getfield 27, 3) := dk_180 0 27 (dk_at dksX5_drives_0 16 rfl rfl)
theorem dX5_drives_19 : decode cX5_drives 19 = .ok (.iload_n 2, 1) := dk_28 (dk_at dksX5_drives_0 19 rfl rfl)
theorem dX5_drives_20 : decode cX5_drives 20 = .ok (.i2b, 1) := dk_145 (dk_at dksX5_drives_0 20 rfl rfl)
theorem dX5_drives_21 : decode cX5_drives 21 = .ok (.bastore, 1) := dk_84 (dk_at dksX5_drives_0 21 rfl rfl)
theorem dX5_drives_22 : decode cX5_drives 22 = .ok (.aload_n 0, 1) := dk_42 (dk_at dksX5_drives_0 22 rfl rfl)
theorem dX5_drives_23 : decode cX5_drives 23 = .ok (.dup, 1) := dk_89 (dk_at dksX5_drives_0 23 rfl rfl)
theorem dX5_drives_24 : decode cX5_drives 24 = .ok (.getfield 27, 3) := dk_180 0 27 (dk_at dksX5_drives_1 0 rfl rfl)
theorem dX5_drives_27 : decode cX5_drives 27 = .ok (.iconst 1, 1) := dk_4 (dk_at dksX5_drives_1 3 rfl rfl)
theorem dX5_drives_28 : decode cX5_drives 28 = .ok (.iadd, 1) := dk_96 (dk_at dksX5_drives_1 4 rfl rfl)
theorem dX5_drives_29 : decode cX5_drives 29 = .ok (.putfield 27, 3) := dk_181 0 27 (dk_at dksX5_drives_1 5 rfl rfl)
theorem dX5_drives_32 : decode cX5_drives 32 = .ok (.return_, 1) := dk_177 (dk_at dksX5_drives_1 8 rfl rfl)
abbrev cX5_lays : ByteArray := prog_8_method_7_code
def yX5_lays : MethodName := ⟨RX5, "lays", "(I)V"⟩
def dkwX5_lays_0 : List UInt8 := [42, 180, 0, 18, 42, 180, 0, 37, 27, 145, 84, 42, 89, 180, 0, 37, 4, 96, 181, 0, 37, 177]
abbrev dktX5_lays_0 : List UInt8 := dkwX5_lays_0 ++ []
theorem dksX5_lays_0 : cX5_lays.data.toList.drop 0 = dktX5_lays_0 := by decide +kernel
theorem dX5_lays_0 : decode cX5_lays 0 = .ok (.aload_n 0, 1) := dk_42 (dk_at dksX5_lays_0 0 rfl rfl)
theorem dX5_lays_1 : decode cX5_lays 1 = .ok (.getfield 18, 3) := dk_180 0 18 (dk_at dksX5_lays_0 1 rfl rfl)
theorem dX5_lays_4 : decode cX5_lays 4 = .ok (.aload_n 0, 1) := dk_42 (dk_at dksX5_lays_0 4 rfl rfl)
theorem dX5_lays_5 : decode cX5_lays 5 = .ok (.getfield 37, 3) := dk_180 0 37 (dk_at dksX5_lays_0 5 rfl rfl)
theorem dX5_lays_8 : decode cX5_lays 8 = .ok (.iload_n 1, 1) := dk_27 (dk_at dksX5_lays_0 8 rfl rfl)
theorem dX5_lays_9 : decode cX5_lays 9 = .ok (.i2b, 1) := dk_145 (dk_at dksX5_lays_0 9 rfl rfl)
theorem dX5_lays_10 : decode cX5_lays 10 = .ok (.bastore, 1) := dk_84 (dk_at dksX5_lays_0 10 rfl rfl)
theorem dX5_lays_11 : decode cX5_lays 11 = .ok (.aload_n 0, 1) := dk_42 (dk_at dksX5_lays_0 11 rfl rfl)
theorem dX5_lays_12 : decode cX5_lays 12 = .ok (.dup, 1) := dk_89 (dk_at dksX5_lays_0 12 rfl rfl)
theorem dX5_lays_13 : decode cX5_lays 13 = .ok (.getfield 37, 3) := dk_180 0 37 (dk_at dksX5_lays_0 13 rfl rfl)
theorem dX5_lays_16 : decode cX5_lays 16 = .ok (.iconst 1, 1) := dk_4 (dk_at dksX5_lays_0 16 rfl rfl)
theorem dX5_lays_17 : decode cX5_lays 17 = .ok (.iadd, 1) := dk_96 (dk_at dksX5_lays_0 17 rfl rfl)
theorem dX5_lays_18 : decode cX5_lays 18 = .ok (.putfield 37, 3) := dk_181 0 37 (dk_at dksX5_lays_0 18 rfl rfl)
theorem dX5_lays_21 : decode cX5_lays 21 = .ok (.return_, 1) := dk_177 (dk_at dksX5_lays_0 21 rfl rfl)
abbrev cX5_as : ByteArray := prog_8_method_2_code
def yX5_as : MethodName := ⟨RX5, "as", "(LHedgehogLots$Slope;)V"⟩
def dkwX5_as_4 : List UInt8 := [180, 0, 24, 3, 42, 180, 0, 24, 3, 16, 12, 184, 0, 31, 177]
abbrev dktX5_as_4 : List UInt8 := dkwX5_as_4 ++ []
def dkwX5_as_3 : List UInt8 := [180, 0, 21, 3, 42, 180, 0, 21, 3, 16, 8, 184, 0, 31, 42, 43, 180, 0, 43, 181, 0, 43, 43]
abbrev dktX5_as_3 : List UInt8 := dkwX5_as_3 ++ dktX5_as_4
def dkwX5_as_2 : List UInt8 := [180, 0, 18, 3, 42, 180, 0, 18, 3, 7, 184, 0, 31, 42, 43, 180, 0, 40, 181, 0, 40, 43]
abbrev dktX5_as_2 : List UInt8 := dkwX5_as_2 ++ dktX5_as_3
def dkwX5_as_1 : List UInt8 := [180, 0, 15, 3, 42, 180, 0, 15, 3, 16, 7, 184, 0, 31, 42, 43, 180, 0, 37, 181, 0, 37, 43]
abbrev dktX5_as_1 : List UInt8 := dkwX5_as_1 ++ dktX5_as_2
def dkwX5_as_0 : List UInt8 := [42, 43, 180, 0, 27, 181, 0, 27, 43, 180, 0, 9, 3, 42, 180, 0, 9, 3, 16, 7, 184, 0, 31, 43]
abbrev dktX5_as_0 : List UInt8 := dkwX5_as_0 ++ dktX5_as_1
theorem dksX5_as_0 : cX5_as.data.toList.drop 0 = dktX5_as_0 := by decide +kernel
theorem dksX5_as_1 : cX5_as.data.toList.drop 24 = dktX5_as_1 := dk_seg dksX5_as_0 24 rfl rfl
theorem dksX5_as_2 : cX5_as.data.toList.drop 47 = dktX5_as_2 := dk_seg dksX5_as_1 23 rfl rfl
theorem dksX5_as_3 : cX5_as.data.toList.drop 69 = dktX5_as_3 := dk_seg dksX5_as_2 22 rfl rfl
theorem dksX5_as_4 : cX5_as.data.toList.drop 92 = dktX5_as_4 := dk_seg dksX5_as_3 23 rfl rfl
theorem dX5_as_0 : decode cX5_as 0 = .ok (.aload_n 0, 1) := dk_42 (dk_at dksX5_as_0 0 rfl rfl)
theorem dX5_as_1 : decode cX5_as 1 = .ok (.aload_n 1, 1) := dk_43 (dk_at dksX5_as_0 1 rfl rfl)
theorem dX5_as_2 : decode cX5_as 2 = .ok (.getfield 27, 3) := dk_180 0 27 (dk_at dksX5_as_0 2 rfl rfl)
theorem dX5_as_5 : decode cX5_as 5 = .ok (.putfield 27, 3) := dk_181 0 27 (dk_at dksX5_as_0 5 rfl rfl)
theorem dX5_as_8 : decode cX5_as 8 = .ok (.aload_n 1, 1) := dk_43 (dk_at dksX5_as_0 8 rfl rfl)
theorem dX5_as_9 : decode cX5_as 9 = .ok (.getfield 9, 3) := dk_180 0 9 (dk_at dksX5_as_0 9 rfl rfl)
theorem dX5_as_12 : decode cX5_as 12 = .ok (.iconst 0, 1) := dk_3 (dk_at dksX5_as_0 12 rfl rfl)
theorem dX5_as_13 : decode cX5_as 13 = .ok (.aload_n 0, 1) := dk_42 (dk_at dksX5_as_0 13 rfl rfl)
theorem dX5_as_14 : decode cX5_as 14 = .ok (.getfield 9, 3) := dk_180 0 9 (dk_at dksX5_as_0 14 rfl rfl)
theorem dX5_as_17 : decode cX5_as 17 = .ok (.iconst 0, 1) := dk_3 (dk_at dksX5_as_0 17 rfl rfl)
theorem dX5_as_18 : decode cX5_as 18 = .ok (.bipush 7, 2) := dk_16 7 (dk_at dksX5_as_0 18 rfl rfl)
theorem dX5_as_20 : decode cX5_as 20 = .ok (.invokestatic 31, 3) := dk_184 0 31 (dk_at dksX5_as_0 20 rfl rfl)
theorem dX5_as_23 : decode cX5_as 23 = .ok (.aload_n 1, 1) := dk_43 (dk_at dksX5_as_0 23 rfl rfl)
theorem dX5_as_24 : decode cX5_as 24 = .ok (.getfield 15, 3) := dk_180 0 15 (dk_at dksX5_as_1 0 rfl rfl)
theorem dX5_as_27 : decode cX5_as 27 = .ok (.iconst 0, 1) := dk_3 (dk_at dksX5_as_1 3 rfl rfl)
theorem dX5_as_28 : decode cX5_as 28 = .ok (.aload_n 0, 1) := dk_42 (dk_at dksX5_as_1 4 rfl rfl)
theorem dX5_as_29 : decode cX5_as 29 = .ok (.getfield 15, 3) := dk_180 0 15 (dk_at dksX5_as_1 5 rfl rfl)
theorem dX5_as_32 : decode cX5_as 32 = .ok (.iconst 0, 1) := dk_3 (dk_at dksX5_as_1 8 rfl rfl)
theorem dX5_as_33 : decode cX5_as 33 = .ok (.bipush 7, 2) := dk_16 7 (dk_at dksX5_as_1 9 rfl rfl)
theorem dX5_as_35 : decode cX5_as 35 = .ok (.invokestatic 31, 3) := dk_184 0 31 (dk_at dksX5_as_1 11 rfl rfl)
theorem dX5_as_38 : decode cX5_as 38 = .ok (.aload_n 0, 1) := dk_42 (dk_at dksX5_as_1 14 rfl rfl)
theorem dX5_as_39 : decode cX5_as 39 = .ok (.aload_n 1, 1) := dk_43 (dk_at dksX5_as_1 15 rfl rfl)
theorem dX5_as_40 : decode cX5_as 40 = .ok (.getfield 37, 3) := dk_180 0 37 (dk_at dksX5_as_1 16 rfl rfl)
theorem dX5_as_43 : decode cX5_as 43 = .ok (.putfield 37, 3) := dk_181 0 37 (dk_at dksX5_as_1 19 rfl rfl)
theorem dX5_as_46 : decode cX5_as 46 = .ok (.aload_n 1, 1) := dk_43 (dk_at dksX5_as_1 22 rfl rfl)
theorem dX5_as_47 : decode cX5_as 47 = .ok (.getfield 18, 3) := dk_180 0 18 (dk_at dksX5_as_2 0 rfl rfl)
theorem dX5_as_50 : decode cX5_as 50 = .ok (.iconst 0, 1) := dk_3 (dk_at dksX5_as_2 3 rfl rfl)
theorem dX5_as_51 : decode cX5_as 51 = .ok (.aload_n 0, 1) := dk_42 (dk_at dksX5_as_2 4 rfl rfl)
theorem dX5_as_52 : decode cX5_as 52 = .ok (.getfield 18, 3) := dk_180 0 18 (dk_at dksX5_as_2 5 rfl rfl)
theorem dX5_as_55 : decode cX5_as 55 = .ok (.iconst 0, 1) := dk_3 (dk_at dksX5_as_2 8 rfl rfl)
theorem dX5_as_56 : decode cX5_as 56 = .ok (.iconst 4, 1) := dk_7 (dk_at dksX5_as_2 9 rfl rfl)
theorem dX5_as_57 : decode cX5_as 57 = .ok (.invokestatic 31, 3) := dk_184 0 31 (dk_at dksX5_as_2 10 rfl rfl)
theorem dX5_as_60 : decode cX5_as 60 = .ok (.aload_n 0, 1) := dk_42 (dk_at dksX5_as_2 13 rfl rfl)
theorem dX5_as_61 : decode cX5_as 61 = .ok (.aload_n 1, 1) := dk_43 (dk_at dksX5_as_2 14 rfl rfl)
theorem dX5_as_62 : decode cX5_as 62 = .ok (.getfield 40, 3) := dk_180 0 40 (dk_at dksX5_as_2 15 rfl rfl)
theorem dX5_as_65 : decode cX5_as 65 = .ok (.putfield 40, 3) := dk_181 0 40 (dk_at dksX5_as_2 18 rfl rfl)
theorem dX5_as_68 : decode cX5_as 68 = .ok (.aload_n 1, 1) := dk_43 (dk_at dksX5_as_2 21 rfl rfl)
theorem dX5_as_69 : decode cX5_as 69 = .ok (.getfield 21, 3) := dk_180 0 21 (dk_at dksX5_as_3 0 rfl rfl)
theorem dX5_as_72 : decode cX5_as 72 = .ok (.iconst 0, 1) := dk_3 (dk_at dksX5_as_3 3 rfl rfl)
theorem dX5_as_73 : decode cX5_as 73 = .ok (.aload_n 0, 1) := dk_42 (dk_at dksX5_as_3 4 rfl rfl)
theorem dX5_as_74 : decode cX5_as 74 = .ok (.getfield 21, 3) := dk_180 0 21 (dk_at dksX5_as_3 5 rfl rfl)
theorem dX5_as_77 : decode cX5_as 77 = .ok (.iconst 0, 1) := dk_3 (dk_at dksX5_as_3 8 rfl rfl)
theorem dX5_as_78 : decode cX5_as 78 = .ok (.bipush 8, 2) := dk_16 8 (dk_at dksX5_as_3 9 rfl rfl)
theorem dX5_as_80 : decode cX5_as 80 = .ok (.invokestatic 31, 3) := dk_184 0 31 (dk_at dksX5_as_3 11 rfl rfl)
theorem dX5_as_83 : decode cX5_as 83 = .ok (.aload_n 0, 1) := dk_42 (dk_at dksX5_as_3 14 rfl rfl)
theorem dX5_as_84 : decode cX5_as 84 = .ok (.aload_n 1, 1) := dk_43 (dk_at dksX5_as_3 15 rfl rfl)
theorem dX5_as_85 : decode cX5_as 85 = .ok (.getfield 43, 3) := dk_180 0 43 (dk_at dksX5_as_3 16 rfl rfl)
theorem dX5_as_88 : decode cX5_as 88 = .ok (.putfield 43, 3) := dk_181 0 43 (dk_at dksX5_as_3 19 rfl rfl)
theorem dX5_as_91 : decode cX5_as 91 = .ok (.aload_n 1, 1) := dk_43 (dk_at dksX5_as_3 22 rfl rfl)
theorem dX5_as_92 : decode cX5_as 92 = .ok (.getfield 24, 3) := dk_180 0 24 (dk_at dksX5_as_4 0 rfl rfl)
theorem dX5_as_95 : decode cX5_as 95 = .ok (.iconst 0, 1) := dk_3 (dk_at dksX5_as_4 3 rfl rfl)
theorem dX5_as_96 : decode cX5_as 96 = .ok (.aload_n 0, 1) := dk_42 (dk_at dksX5_as_4 4 rfl rfl)
theorem dX5_as_97 : decode cX5_as 97 = .ok (.getfield 24, 3) := dk_180 0 24 (dk_at dksX5_as_4 5 rfl rfl)
theorem dX5_as_100 : decode cX5_as 100 = .ok (.iconst 0, 1) := dk_3 (dk_at dksX5_as_4 8 rfl rfl)
theorem dX5_as_101 : decode cX5_as 101 = .ok (.bipush 12, 2) := dk_16 12 (dk_at dksX5_as_4 9 rfl rfl)
theorem dX5_as_103 : decode cX5_as 103 = .ok (.invokestatic 31, 3) := dk_184 0 31 (dk_at dksX5_as_4 11 rfl rfl)
theorem dX5_as_106 : decode cX5_as 106 = .ok (.return_, 1) := dk_177 (dk_at dksX5_as_4 14 rfl rfl)
abbrev cX5_pulls : ByteArray := prog_8_method_8_code
def yX5_pulls : MethodName := ⟨RX5, "pulls", "(I)V"⟩
def dkwX5_pulls_2 : List UInt8 := [177]
abbrev dktX5_pulls_2 : List UInt8 := dkwX5_pulls_2 ++ []
def dkwX5_pulls_1 : List UInt8 := [4, 96, 42, 180, 0, 15, 27, 16, 6, 27, 100, 184, 0, 31, 42, 89, 180, 0, 27, 4, 100, 181, 0, 27]
abbrev dktX5_pulls_1 : List UInt8 := dkwX5_pulls_1 ++ dktX5_pulls_2
def dkwX5_pulls_0 : List UInt8 := [42, 180, 0, 9, 27, 4, 96, 42, 180, 0, 9, 27, 16, 6, 27, 100, 184, 0, 31, 42, 180, 0, 15, 27]
abbrev dktX5_pulls_0 : List UInt8 := dkwX5_pulls_0 ++ dktX5_pulls_1
theorem dksX5_pulls_0 : cX5_pulls.data.toList.drop 0 = dktX5_pulls_0 := by decide +kernel
theorem dksX5_pulls_1 : cX5_pulls.data.toList.drop 24 = dktX5_pulls_1 := dk_seg dksX5_pulls_0 24 rfl rfl
theorem dksX5_pulls_2 : cX5_pulls.data.toList.drop 48 = dktX5_pulls_2 := dk_seg dksX5_pulls_1 24 rfl rfl
theorem dX5_pulls_0 : decode cX5_pulls 0 = .ok (.aload_n 0, 1) := dk_42 (dk_at dksX5_pulls_0 0 rfl rfl)
theorem dX5_pulls_1 : decode cX5_pulls 1 = .ok (.getfield 9, 3) := dk_180 0 9 (dk_at dksX5_pulls_0 1 rfl rfl)
theorem dX5_pulls_4 : decode cX5_pulls 4 = .ok (.iload_n 1, 1) := dk_27 (dk_at dksX5_pulls_0 4 rfl rfl)
theorem dX5_pulls_5 : decode cX5_pulls 5 = .ok (.iconst 1, 1) := dk_4 (dk_at dksX5_pulls_0 5 rfl rfl)
theorem dX5_pulls_6 : decode cX5_pulls 6 = .ok (.iadd, 1) := dk_96 (dk_at dksX5_pulls_0 6 rfl rfl)
theorem dX5_pulls_7 : decode cX5_pulls 7 = .ok (.aload_n 0, 1) := dk_42 (dk_at dksX5_pulls_0 7 rfl rfl)
theorem dX5_pulls_8 : decode cX5_pulls 8 = .ok (.getfield 9, 3) := dk_180 0 9 (dk_at dksX5_pulls_0 8 rfl rfl)
theorem dX5_pulls_11 : decode cX5_pulls 11 = .ok (.iload_n 1, 1) := dk_27 (dk_at dksX5_pulls_0 11 rfl rfl)
theorem dX5_pulls_12 : decode cX5_pulls 12 = .ok (.bipush 6, 2) := dk_16 6 (dk_at dksX5_pulls_0 12 rfl rfl)
theorem dX5_pulls_14 : decode cX5_pulls 14 = .ok (.iload_n 1, 1) := dk_27 (dk_at dksX5_pulls_0 14 rfl rfl)
theorem dX5_pulls_15 : decode cX5_pulls 15 = .ok (.isub, 1) := dk_100 (dk_at dksX5_pulls_0 15 rfl rfl)
theorem dX5_pulls_16 : decode cX5_pulls 16 = .ok (.invokestatic 31, 3) := dk_184 0 31 (dk_at dksX5_pulls_0 16 rfl rfl)
theorem dX5_pulls_19 : decode cX5_pulls 19 = .ok (.aload_n 0, 1) := dk_42 (dk_at dksX5_pulls_0 19 rfl rfl)
theorem dX5_pulls_20 : decode cX5_pulls 20 = .ok (.getfield 15, 3) := dk_180 0 15 (dk_at dksX5_pulls_0 20 rfl rfl)
theorem dX5_pulls_23 : decode cX5_pulls 23 = .ok (.iload_n 1, 1) := dk_27 (dk_at dksX5_pulls_0 23 rfl rfl)
theorem dX5_pulls_24 : decode cX5_pulls 24 = .ok (.iconst 1, 1) := dk_4 (dk_at dksX5_pulls_1 0 rfl rfl)
theorem dX5_pulls_25 : decode cX5_pulls 25 = .ok (.iadd, 1) := dk_96 (dk_at dksX5_pulls_1 1 rfl rfl)
theorem dX5_pulls_26 : decode cX5_pulls 26 = .ok (.aload_n 0, 1) := dk_42 (dk_at dksX5_pulls_1 2 rfl rfl)
theorem dX5_pulls_27 : decode cX5_pulls 27 = .ok (.getfield 15, 3) := dk_180 0 15 (dk_at dksX5_pulls_1 3 rfl rfl)
theorem dX5_pulls_30 : decode cX5_pulls 30 = .ok (.iload_n 1, 1) := dk_27 (dk_at dksX5_pulls_1 6 rfl rfl)
theorem dX5_pulls_31 : decode cX5_pulls 31 = .ok (.bipush 6, 2) := dk_16 6 (dk_at dksX5_pulls_1 7 rfl rfl)
theorem dX5_pulls_33 : decode cX5_pulls 33 = .ok (.iload_n 1, 1) := dk_27 (dk_at dksX5_pulls_1 9 rfl rfl)
theorem dX5_pulls_34 : decode cX5_pulls 34 = .ok (.isub, 1) := dk_100 (dk_at dksX5_pulls_1 10 rfl rfl)
theorem dX5_pulls_35 : decode cX5_pulls 35 = .ok (.invokestatic 31, 3) := dk_184 0 31 (dk_at dksX5_pulls_1 11 rfl rfl)
theorem dX5_pulls_38 : decode cX5_pulls 38 = .ok (.aload_n 0, 1) := dk_42 (dk_at dksX5_pulls_1 14 rfl rfl)
theorem dX5_pulls_39 : decode cX5_pulls 39 = .ok (.dup, 1) := dk_89 (dk_at dksX5_pulls_1 15 rfl rfl)
theorem dX5_pulls_40 : decode cX5_pulls 40 = .ok (.getfield 27, 3) := dk_180 0 27 (dk_at dksX5_pulls_1 16 rfl rfl)
theorem dX5_pulls_43 : decode cX5_pulls 43 = .ok (.iconst 1, 1) := dk_4 (dk_at dksX5_pulls_1 19 rfl rfl)
theorem dX5_pulls_44 : decode cX5_pulls 44 = .ok (.isub, 1) := dk_100 (dk_at dksX5_pulls_1 20 rfl rfl)
theorem dX5_pulls_45 : decode cX5_pulls 45 = .ok (.putfield 27, 3) := dk_181 0 27 (dk_at dksX5_pulls_1 21 rfl rfl)
theorem dX5_pulls_48 : decode cX5_pulls 48 = .ok (.return_, 1) := dk_177 (dk_at dksX5_pulls_2 0 rfl rfl)
theorem q65 : (Jvm.Cond.initialized "HedgehogLots$Slope") ∈ lw_all := lw_g (lw_at lw_m1 6 rfl) rfl
theorem q123 : (Jvm.Cond.instantiable "HedgehogLots$Slope" (9 : Nat)) ∈ lw_all := lw_g (lw_at lw_m1 64 rfl) rfl
theorem q125 : (Jvm.Cond.instanceMethod ({ cls := "HedgehogLots$Slope", name := "<init>", desc := "()V" } : Jvm.MethodName)) ∈ lw_all := lw_g (lw_at lw_m1 66 rfl) rfl
theorem q126 : (Jvm.Cond.code ({ cls := "HedgehogLots$Slope", name := "<init>", desc := "()V" } : Jvm.MethodName) prog_8_method_1_code (1 : Nat) (Option.none : Option Jvm.ClassFile.FieldType)) ∈ lw_all := lw_g (lw_at lw_m1 67 rfl) rfl
theorem q127 : (Jvm.Cond.methodLink "HedgehogLots$Slope" (3 : Nat) ({ cls := "java/lang/Object", name := "<init>", desc := "()V" } : Jvm.MethodName)) ∈ lw_all := lw_g (lw_at lw_m1 68 rfl) rfl
theorem q128 : (Jvm.Cond.fieldLink "HedgehogLots$Slope" (27 : Nat) "HedgehogLots$Slope" "pegs" "I") ∈ lw_all := lw_g (lw_at lw_m1 69 rfl) rfl
theorem q131 : (Jvm.Cond.fieldLink "HedgehogLots$Slope" (9 : Nat) "HedgehogLots$Slope" "peg" "[B") ∈ lw_all := lw_g (lw_at lw_m1 72 rfl) rfl
theorem q133 : (Jvm.Cond.fieldLink "HedgehogLots$Slope" (15 : Nat) "HedgehogLots$Slope" "rag" "[B") ∈ lw_all := lw_g (lw_at lw_m1 74 rfl) rfl
theorem q135 : (Jvm.Cond.fieldLink "HedgehogLots$Slope" (37 : Nat) "HedgehogLots$Slope" "slugs" "I") ∈ lw_all := lw_g (lw_at lw_m1 76 rfl) rfl
theorem q138 : (Jvm.Cond.fieldLink "HedgehogLots$Slope" (18 : Nat) "HedgehogLots$Slope" "slug" "[B") ∈ lw_all := lw_g (lw_at lw_m1 79 rfl) rfl
theorem q140 : (Jvm.Cond.fieldLink "HedgehogLots$Slope" (40 : Nat) "HedgehogLots$Slope" "hedgehogs" "I") ∈ lw_all := lw_g (lw_at lw_m1 81 rfl) rfl
theorem q143 : (Jvm.Cond.fieldLink "HedgehogLots$Slope" (21 : Nat) "HedgehogLots$Slope" "hedgehog" "[B") ∈ lw_all := lw_g (lw_at lw_m1 84 rfl) rfl
theorem q146 : (Jvm.Cond.fieldLink "HedgehogLots$Slope" (43 : Nat) "HedgehogLots$Slope" "suits" "I") ∈ lw_all := lw_g (lw_at lw_m1 87 rfl) rfl
theorem q149 : (Jvm.Cond.fieldLink "HedgehogLots$Slope" (24 : Nat) "HedgehogLots$Slope" "suit" "[B") ∈ lw_all := lw_g (lw_at lw_m1 90 rfl) rfl
theorem q152 : (Jvm.Cond.lays "HedgehogLots$Slope" "HedgehogLots$Slope" "pegs" "I") ∈ lw_all := lw_g (lw_at lw_m1 93 rfl) rfl
theorem q153 : (Jvm.Cond.soleField "HedgehogLots$Slope" "pegs") ∈ lw_all := lw_g (lw_at lw_m1 94 rfl) rfl
theorem q154 : (Jvm.Cond.laysFinal "HedgehogLots$Slope" "HedgehogLots$Slope" "peg" "[B") ∈ lw_all := lw_g (lw_at lw_m1 95 rfl) rfl
theorem q155 : (Jvm.Cond.soleField "HedgehogLots$Slope" "peg") ∈ lw_all := lw_g (lw_at lw_m1 96 rfl) rfl
theorem q156 : (Jvm.Cond.laysFinal "HedgehogLots$Slope" "HedgehogLots$Slope" "rag" "[B") ∈ lw_all := lw_g (lw_at lw_m1 97 rfl) rfl
theorem q157 : (Jvm.Cond.soleField "HedgehogLots$Slope" "rag") ∈ lw_all := lw_g (lw_at lw_m1 98 rfl) rfl
theorem q158 : (Jvm.Cond.lays "HedgehogLots$Slope" "HedgehogLots$Slope" "slugs" "I") ∈ lw_all := lw_g (lw_at lw_m1 99 rfl) rfl
theorem q159 : (Jvm.Cond.soleField "HedgehogLots$Slope" "slugs") ∈ lw_all := lw_g (lw_at lw_m1 100 rfl) rfl
theorem q160 : (Jvm.Cond.laysFinal "HedgehogLots$Slope" "HedgehogLots$Slope" "slug" "[B") ∈ lw_all := lw_g (lw_at lw_m1 101 rfl) rfl
theorem q161 : (Jvm.Cond.soleField "HedgehogLots$Slope" "slug") ∈ lw_all := lw_g (lw_at lw_m1 102 rfl) rfl
theorem q162 : (Jvm.Cond.lays "HedgehogLots$Slope" "HedgehogLots$Slope" "hedgehogs" "I") ∈ lw_all := lw_g (lw_at lw_m1 103 rfl) rfl
theorem q163 : (Jvm.Cond.soleField "HedgehogLots$Slope" "hedgehogs") ∈ lw_all := lw_g (lw_at lw_m1 104 rfl) rfl
theorem q164 : (Jvm.Cond.laysFinal "HedgehogLots$Slope" "HedgehogLots$Slope" "hedgehog" "[B") ∈ lw_all := lw_g (lw_at lw_m1 105 rfl) rfl
theorem q165 : (Jvm.Cond.soleField "HedgehogLots$Slope" "hedgehog") ∈ lw_all := lw_g (lw_at lw_m1 106 rfl) rfl
theorem q166 : (Jvm.Cond.lays "HedgehogLots$Slope" "HedgehogLots$Slope" "suits" "I") ∈ lw_all := lw_g (lw_at lw_m1 107 rfl) rfl
theorem q167 : (Jvm.Cond.soleField "HedgehogLots$Slope" "suits") ∈ lw_all := lw_g (lw_at lw_m1 108 rfl) rfl
theorem q168 : (Jvm.Cond.laysFinal "HedgehogLots$Slope" "HedgehogLots$Slope" "suit" "[B") ∈ lw_all := lw_g (lw_at lw_m1 109 rfl) rfl
theorem q169 : (Jvm.Cond.soleField "HedgehogLots$Slope" "suit") ∈ lw_all := lw_g (lw_at lw_m1 110 rfl) rfl
theorem q170 : (Jvm.Cond.superclass "HedgehogLots$Slope" "java/lang/Object") ∈ lw_all := lw_g (lw_at lw_m1 111 rfl) rfl
theorem q490 : (Jvm.Cond.instanceMethod ({ cls := "HedgehogLots$Slope", name := "isFree", desc := "(I)Z" } : Jvm.MethodName)) ∈ lw_all := lw_g (lw_at lw_m2 191 rfl) rfl
theorem q491 : (Jvm.Cond.selects "HedgehogLots$Slope" ({ cls := "HedgehogLots$Slope", name := "isFree", desc := "(I)Z" } : Jvm.MethodName) ({ cls := "HedgehogLots$Slope", name := "isFree", desc := "(I)Z" } : Jvm.MethodName)) ∈ lw_all := lw_g (lw_at lw_m2 192 rfl) rfl
theorem q492 : (Jvm.Cond.code ({ cls := "HedgehogLots$Slope", name := "isFree", desc := "(I)Z" } : Jvm.MethodName) prog_8_method_5_code (2 : Nat) (Option.some Jvm.ClassFile.FieldType.boolean)) ∈ lw_all := lw_g (lw_at lw_m2 193 rfl) rfl
theorem q493 : (Jvm.Cond.methodLink "HedgehogLots$Slope" (46 : Nat) ({ cls := "HedgehogLots$Slope", name := "pegIn", desc := "(I)I" } : Jvm.MethodName)) ∈ lw_all := lw_g (lw_at lw_m2 194 rfl) rfl
theorem q494 : (Jvm.Cond.instanceMethod ({ cls := "HedgehogLots$Slope", name := "pegIn", desc := "(I)I" } : Jvm.MethodName)) ∈ lw_all := lw_g (lw_at lw_m2 195 rfl) rfl
theorem q495 : (Jvm.Cond.selects "HedgehogLots$Slope" ({ cls := "HedgehogLots$Slope", name := "pegIn", desc := "(I)I" } : Jvm.MethodName) ({ cls := "HedgehogLots$Slope", name := "pegIn", desc := "(I)I" } : Jvm.MethodName)) ∈ lw_all := lw_g (lw_at lw_m2 196 rfl) rfl
theorem q496 : (Jvm.Cond.code ({ cls := "HedgehogLots$Slope", name := "pegIn", desc := "(I)I" } : Jvm.MethodName) prog_8_method_3_code (4 : Nat) (Option.some Jvm.ClassFile.FieldType.int)) ∈ lw_all := lw_g (lw_at lw_m2 197 rfl) rfl
theorem q497 : (Jvm.Cond.methodLink "HedgehogLots$Slope" (50 : Nat) ({ cls := "HedgehogLots$Slope", name := "isSlugIn", desc := "(I)Z" } : Jvm.MethodName)) ∈ lw_all := lw_g (lw_at lw_m2 198 rfl) rfl
theorem q498 : (Jvm.Cond.instanceMethod ({ cls := "HedgehogLots$Slope", name := "isSlugIn", desc := "(I)Z" } : Jvm.MethodName)) ∈ lw_all := lw_g (lw_at lw_m2 199 rfl) rfl
theorem q499 : (Jvm.Cond.selects "HedgehogLots$Slope" ({ cls := "HedgehogLots$Slope", name := "isSlugIn", desc := "(I)Z" } : Jvm.MethodName) ({ cls := "HedgehogLots$Slope", name := "isSlugIn", desc := "(I)Z" } : Jvm.MethodName)) ∈ lw_all := lw_g (lw_at lw_m2 200 rfl) rfl
theorem q500 : (Jvm.Cond.code ({ cls := "HedgehogLots$Slope", name := "isSlugIn", desc := "(I)Z" } : Jvm.MethodName) prog_8_method_4_code (4 : Nat) (Option.some Jvm.ClassFile.FieldType.boolean)) ∈ lw_all := lw_g (lw_at lw_m2 201 rfl) rfl
theorem q507 : (Jvm.Cond.instanceMethod ({ cls := "HedgehogLots$Slope", name := "drives", desc := "(II)V" } : Jvm.MethodName)) ∈ lw_all := lw_g (lw_at lw_m2 208 rfl) rfl
theorem q508 : (Jvm.Cond.selects "HedgehogLots$Slope" ({ cls := "HedgehogLots$Slope", name := "drives", desc := "(II)V" } : Jvm.MethodName) ({ cls := "HedgehogLots$Slope", name := "drives", desc := "(II)V" } : Jvm.MethodName)) ∈ lw_all := lw_g (lw_at lw_m2 209 rfl) rfl
theorem q509 : (Jvm.Cond.code ({ cls := "HedgehogLots$Slope", name := "drives", desc := "(II)V" } : Jvm.MethodName) prog_8_method_6_code (3 : Nat) (Option.none : Option Jvm.ClassFile.FieldType)) ∈ lw_all := lw_g (lw_at lw_m2 210 rfl) rfl
theorem q511 : (Jvm.Cond.instanceMethod ({ cls := "HedgehogLots$Slope", name := "lays", desc := "(I)V" } : Jvm.MethodName)) ∈ lw_all := lw_g (lw_at lw_m2 212 rfl) rfl
theorem q512 : (Jvm.Cond.selects "HedgehogLots$Slope" ({ cls := "HedgehogLots$Slope", name := "lays", desc := "(I)V" } : Jvm.MethodName) ({ cls := "HedgehogLots$Slope", name := "lays", desc := "(I)V" } : Jvm.MethodName)) ∈ lw_all := lw_g (lw_at lw_m2 213 rfl) rfl
theorem q513 : (Jvm.Cond.code ({ cls := "HedgehogLots$Slope", name := "lays", desc := "(I)V" } : Jvm.MethodName) prog_8_method_7_code (2 : Nat) (Option.none : Option Jvm.ClassFile.FieldType)) ∈ lw_all := lw_g (lw_at lw_m2 214 rfl) rfl
theorem q522 : (Jvm.Cond.instanceMethod ({ cls := "HedgehogLots$Slope", name := "as", desc := "(LHedgehogLots$Slope;)V" } : Jvm.MethodName)) ∈ lw_all := lw_g (lw_at lw_m2 223 rfl) rfl
theorem q523 : (Jvm.Cond.selects "HedgehogLots$Slope" ({ cls := "HedgehogLots$Slope", name := "as", desc := "(LHedgehogLots$Slope;)V" } : Jvm.MethodName) ({ cls := "HedgehogLots$Slope", name := "as", desc := "(LHedgehogLots$Slope;)V" } : Jvm.MethodName)) ∈ lw_all := lw_g (lw_at lw_m2 224 rfl) rfl
theorem q524 : (Jvm.Cond.code ({ cls := "HedgehogLots$Slope", name := "as", desc := "(LHedgehogLots$Slope;)V" } : Jvm.MethodName) prog_8_method_2_code (2 : Nat) (Option.none : Option Jvm.ClassFile.FieldType)) ∈ lw_all := lw_g (lw_at lw_m2 225 rfl) rfl
theorem q525 : (Jvm.Cond.methodLink "HedgehogLots$Slope" (31 : Nat) ({ cls := "java/lang/System", name := "arraycopy", desc := "(Ljava/lang/Object;ILjava/lang/Object;II)V" } : Jvm.MethodName)) ∈ lw_all := lw_g (lw_at lw_m2 226 rfl) rfl
theorem q767 : (Jvm.Cond.instanceMethod ({ cls := "HedgehogLots$Slope", name := "pulls", desc := "(I)V" } : Jvm.MethodName)) ∈ lw_all := lw_g (lw_at lw_m3 228 rfl) rfl
theorem q768 : (Jvm.Cond.selects "HedgehogLots$Slope" ({ cls := "HedgehogLots$Slope", name := "pulls", desc := "(I)V" } : Jvm.MethodName) ({ cls := "HedgehogLots$Slope", name := "pulls", desc := "(I)V" } : Jvm.MethodName)) ∈ lw_all := lw_g (lw_at lw_m3 229 rfl) rfl
theorem q769 : (Jvm.Cond.code ({ cls := "HedgehogLots$Slope", name := "pulls", desc := "(I)V" } : Jvm.MethodName) prog_8_method_8_code (2 : Nat) (Option.none : Option Jvm.ClassFile.FieldType)) ∈ lw_all := lw_g (lw_at lw_m3 230 rfl) rfl
theorem in_X5 : ∀ w ∈ wsX50, w ∈ lw_all := lw_in wsX50 [152, 154, 156, 158, 160, 162, 164, 166, 168] (by decide +kernel) (by decide +kernel)
/-! HedgehogLots$Sheet -/
set_option maxRecDepth 100000
def RX6 : String := "HedgehogLots$Sheet"
def TX6 : u_T := fun k => match k with
  | _ => ("HedgehogLots$Sheet", "row", "Ljava/lang/Object;", false)
def tyX6 : Nat → FieldType := fun k => match k with
  | _ => .object "java/lang/Object"
abbrev wsX60 : List Cond := u_ws RX6 TX6 1
theorem nmX6 : ∀ a, a < 1 → ∀ b, b < 1 → a ≠ b → (TX6 a).2.1 ≠ (TX6 b).2.1 := by decide +kernel
theorem tyX6_ok : ∀ k, k < 1 → parseFieldDescriptor (TX6 k).2.2.1 = some (tyX6 k) := by decide +kernel
abbrev cX6_init : ByteArray := prog_7_method_1_code
def yX6_init : MethodName := ⟨RX6, "<init>", "()V"⟩
theorem dX6_init_0 : decode cX6_init 0 = .ok (.aload_n 0, 1) := by decide +kernel
theorem dX6_init_1 : decode cX6_init 1 = .ok (.invokespecial 1, 3) := by decide +kernel
theorem dX6_init_4 : decode cX6_init 4 = .ok (.return_, 1) := by decide +kernel
theorem q66 : (Jvm.Cond.initialized "HedgehogLots$Sheet") ∈ lw_all := lw_g (lw_at lw_m1 7 rfl) rfl
theorem q175 : (Jvm.Cond.instantiable "HedgehogLots$Sheet" (1 : Nat)) ∈ lw_all := lw_g (lw_at lw_m1 116 rfl) rfl
theorem q177 : (Jvm.Cond.instanceMethod ({ cls := "HedgehogLots$Sheet", name := "<init>", desc := "()V" } : Jvm.MethodName)) ∈ lw_all := lw_g (lw_at lw_m1 118 rfl) rfl
theorem q178 : (Jvm.Cond.code ({ cls := "HedgehogLots$Sheet", name := "<init>", desc := "()V" } : Jvm.MethodName) prog_7_method_1_code (1 : Nat) (Option.none : Option Jvm.ClassFile.FieldType)) ∈ lw_all := lw_g (lw_at lw_m1 119 rfl) rfl
theorem q179 : (Jvm.Cond.methodLink "HedgehogLots$Sheet" (1 : Nat) ({ cls := "java/lang/Object", name := "<init>", desc := "()V" } : Jvm.MethodName)) ∈ lw_all := lw_g (lw_at lw_m1 120 rfl) rfl
theorem q181 : (Jvm.Cond.lays "HedgehogLots$Sheet" "HedgehogLots$Sheet" "row" "Ljava/lang/Object;") ∈ lw_all := lw_g (lw_at lw_m1 122 rfl) rfl
theorem q182 : (Jvm.Cond.soleField "HedgehogLots$Sheet" "row") ∈ lw_all := lw_g (lw_at lw_m1 123 rfl) rfl
theorem q183 : (Jvm.Cond.superclass "HedgehogLots$Sheet" "java/lang/Object") ∈ lw_all := lw_g (lw_at lw_m1 124 rfl) rfl
theorem in_X6 : ∀ w ∈ wsX60, w ∈ lw_all := lw_in wsX60 [181] (by decide +kernel) (by decide +kernel)
/-! HedgehogLots$Reader -/
set_option maxRecDepth 100000
def RX8 : String := "HedgehogLots$Reader"
def TX8 : u_T := fun k => match k with
  | 0 => ("HedgehogLots$Reader", "size", "I", true)
  | 1 => ("HedgehogLots$Reader", "made", "LHedgehogLots$Slope;", true)
  | 2 => ("HedgehogLots$Reader", "highest", "I", false)
  | 3 => ("HedgehogLots$Reader", "at", "I", false)
  | 4 => ("HedgehogLots$Reader", "from", "I", false)
  | 5 => ("HedgehogLots$Reader", "sort", "I", false)
  | 6 => ("HedgehogLots$Reader", "value", "I", false)
  | _ => ("HedgehogLots$Reader", "this$0", "LHedgehogLots;", true)
def tyX8 : Nat → FieldType := fun k => match k with
  | 0 => .int
  | 1 => .object "HedgehogLots$Slope"
  | 2 => .int
  | 3 => .int
  | 4 => .int
  | 5 => .int
  | 6 => .int
  | _ => .object "HedgehogLots"
abbrev wsX80 : List Cond := u_ws RX8 TX8 8
theorem nmX8 : ∀ a, a < 8 → ∀ b, b < 8 → a ≠ b → (TX8 a).2.1 ≠ (TX8 b).2.1 := by decide +kernel
theorem tyX8_ok : ∀ k, k < 8 → parseFieldDescriptor (TX8 k).2.2.1 = some (tyX8 k) := by decide +kernel
abbrev cX8_init : ByteArray := prog_6_method_1_code
def yX8_init : MethodName := ⟨RX8, "<init>", "(LHedgehogLots;I)V"⟩
def dkwX8_init_1 : List UInt8 := [181, 0, 22, 42, 28, 181, 0, 26, 42, 182, 0, 29, 177]
abbrev dktX8_init_1 : List UInt8 := dkwX8_init_1 ++ []
def dkwX8_init_0 : List UInt8 := [42, 43, 181, 0, 3, 42, 183, 0, 9, 42, 187, 0, 15, 89, 183, 0, 17, 181, 0, 18, 42, 16, 252]
abbrev dktX8_init_0 : List UInt8 := dkwX8_init_0 ++ dktX8_init_1
theorem dksX8_init_0 : cX8_init.data.toList.drop 0 = dktX8_init_0 := by decide +kernel
theorem dksX8_init_1 : cX8_init.data.toList.drop 23 = dktX8_init_1 := dk_seg dksX8_init_0 23 rfl rfl
theorem dX8_init_0 : decode cX8_init 0 = .ok (.aload_n 0, 1) := dk_42 (dk_at dksX8_init_0 0 rfl rfl)
theorem dX8_init_1 : decode cX8_init 1 = .ok (.aload_n 1, 1) := dk_43 (dk_at dksX8_init_0 1 rfl rfl)
theorem dX8_init_2 : decode cX8_init 2 = .ok (.putfield 3, 3) := dk_181 0 3 (dk_at dksX8_init_0 2 rfl rfl)
theorem dX8_init_5 : decode cX8_init 5 = .ok (.aload_n 0, 1) := dk_42 (dk_at dksX8_init_0 5 rfl rfl)
theorem dX8_init_6 : decode cX8_init 6 = .ok (.invokespecial 9, 3) := dk_183 0 9 (dk_at dksX8_init_0 6 rfl rfl)
theorem dX8_init_9 : decode cX8_init 9 = .ok (.aload_n 0, 1) := dk_42 (dk_at dksX8_init_0 9 rfl rfl)
theorem dX8_init_10 : decode cX8_init 10 = .ok (.new 15, 3) := dk_187 0 15 (dk_at dksX8_init_0 10 rfl rfl)
theorem dX8_init_13 : decode cX8_init 13 = .ok (.dup, 1) := dk_89 (dk_at dksX8_init_0 13 rfl rfl)
theorem dX8_init_14 : decode cX8_init 14 = .ok (.invokespecial 17, 3) := dk_183 0 17 (dk_at dksX8_init_0 14 rfl rfl)
theorem dX8_init_17 : decode cX8_init 17 = .ok (.putfield 18, 3) := dk_181 0 18 (dk_at dksX8_init_0 17 rfl rfl)
theorem dX8_init_20 : decode cX8_init 20 = .ok (.aload_n 0, 1) := dk_42 (dk_at dksX8_init_0 20 rfl rfl)
theorem dX8_init_21 : decode cX8_init 21 = .ok (.bipush (-4), 2) := dk_16 252 (dk_at dksX8_init_0 21 rfl rfl)
theorem dX8_init_23 : decode cX8_init 23 = .ok (.putfield 22, 3) := dk_181 0 22 (dk_at dksX8_init_1 0 rfl rfl)
theorem dX8_init_26 : decode cX8_init 26 = .ok (.aload_n 0, 1) := dk_42 (dk_at dksX8_init_1 3 rfl rfl)
theorem dX8_init_27 : decode cX8_init 27 = .ok (.iload_n 2, 1) := dk_28 (dk_at dksX8_init_1 4 rfl rfl)
theorem dX8_init_28 : decode cX8_init 28 = .ok (.putfield 26, 3) := dk_181 0 26 (dk_at dksX8_init_1 5 rfl rfl)
theorem dX8_init_31 : decode cX8_init 31 = .ok (.aload_n 0, 1) := dk_42 (dk_at dksX8_init_1 8 rfl rfl)
theorem dX8_init_32 : decode cX8_init 32 = .ok (.invokevirtual 29, 3) := dk_182 0 29 (dk_at dksX8_init_1 9 rfl rfl)
theorem dX8_init_35 : decode cX8_init 35 = .ok (.return_, 1) := dk_177 (dk_at dksX8_init_1 12 rfl rfl)
abbrev cX8_next : ByteArray := prog_6_method_6_code
def yX8_next : MethodName := ⟨RX8, "next", "()V"⟩
def dkwX8_next_10 : List UInt8 := [181, 0, 32, 177]
abbrev dktX8_next_10 : List UInt8 := dkwX8_next_10 ++ []
def dkwX8_next_9 : List UInt8 := [181, 0, 65, 42, 42, 16, 59, 16, 59, 182, 0, 78, 4, 182, 0, 85, 42, 89, 180, 0, 32, 4, 96]
abbrev dktX8_next_9 : List UInt8 := dkwX8_next_9 ++ dktX8_next_10
def dkwX8_next_8 : List UInt8 := [180, 0, 41, 100, 6, 162, 0, 7, 4, 167, 0, 4, 3, 4, 182, 0, 85, 167, 0, 31, 42, 6]
abbrev dktX8_next_8 : List UInt8 := dkwX8_next_8 ++ dktX8_next_9
def dkwX8_next_7 : List UInt8 := [181, 0, 82, 42, 89, 180, 0, 32, 4, 96, 181, 0, 32, 167, 255, 188, 42, 42, 180, 0, 32, 42]
abbrev dktX8_next_7 : List UInt8 := dkwX8_next_7 ++ dktX8_next_8
def dkwX8_next_6 : List UInt8 := [42, 180, 0, 3, 180, 0, 35, 42, 180, 0, 32, 51, 96, 16, 48, 100, 167, 0, 7, 42, 180, 0, 82]
abbrev dktX8_next_6 : List UInt8 := dkwX8_next_6 ++ dktX8_next_7
def dkwX8_next_5 : List UInt8 := [153, 0, 63, 42, 42, 180, 0, 32, 42, 180, 0, 41, 100, 5, 162, 0, 29, 16, 10, 42, 180, 0, 82, 104]
abbrev dktX8_next_5 : List UInt8 := dkwX8_next_5 ++ dktX8_next_6
def dkwX8_next_4 : List UInt8 := [182, 0, 78, 153, 0, 110, 42, 5, 181, 0, 65, 42, 3, 181, 0, 82, 42, 16, 48, 16, 57, 182, 0, 78]
abbrev dktX8_next_4 : List UInt8 := dkwX8_next_4 ++ dktX8_next_5
def dkwX8_next_3 : List UInt8 := [182, 0, 78, 153, 0, 162, 42, 89, 180, 0, 32, 4, 96, 181, 0, 32, 167, 255, 235, 42, 16, 48, 16, 57]
abbrev dktX8_next_3 : List UInt8 := dkwX8_next_3 ++ dktX8_next_4
def dkwX8_next_2 : List UInt8 := [167, 0, 189, 42, 16, 97, 16, 122, 182, 0, 78, 153, 0, 32, 42, 4, 181, 0, 65, 42, 16, 97, 16, 122]
abbrev dktX8_next_2 : List UInt8 := dkwX8_next_2 ++ dktX8_next_3
def dkwX8_next_1 : List UInt8 := [42, 42, 180, 0, 32, 181, 0, 41, 42, 180, 0, 32, 42, 180, 0, 26, 160, 0, 11, 42, 3, 181, 0, 65]
abbrev dktX8_next_1 : List UInt8 := dkwX8_next_1 ++ dktX8_next_2
def dkwX8_next_0 : List UInt8 := [42, 16, 32, 16, 32, 182, 0, 78, 153, 0, 16, 42, 89, 180, 0, 32, 4, 96, 181, 0, 32, 167, 255, 235]
abbrev dktX8_next_0 : List UInt8 := dkwX8_next_0 ++ dktX8_next_1
theorem dksX8_next_0 : cX8_next.data.toList.drop 0 = dktX8_next_0 := by decide +kernel
theorem dksX8_next_1 : cX8_next.data.toList.drop 24 = dktX8_next_1 := dk_seg dksX8_next_0 24 rfl rfl
theorem dksX8_next_2 : cX8_next.data.toList.drop 48 = dktX8_next_2 := dk_seg dksX8_next_1 24 rfl rfl
theorem dksX8_next_3 : cX8_next.data.toList.drop 72 = dktX8_next_3 := dk_seg dksX8_next_2 24 rfl rfl
theorem dksX8_next_4 : cX8_next.data.toList.drop 96 = dktX8_next_4 := dk_seg dksX8_next_3 24 rfl rfl
theorem dksX8_next_5 : cX8_next.data.toList.drop 120 = dktX8_next_5 := dk_seg dksX8_next_4 24 rfl rfl
theorem dksX8_next_6 : cX8_next.data.toList.drop 144 = dktX8_next_6 := dk_seg dksX8_next_5 24 rfl rfl
theorem dksX8_next_7 : cX8_next.data.toList.drop 167 = dktX8_next_7 := dk_seg dksX8_next_6 23 rfl rfl
theorem dksX8_next_8 : cX8_next.data.toList.drop 189 = dktX8_next_8 := dk_seg dksX8_next_7 22 rfl rfl
theorem dksX8_next_9 : cX8_next.data.toList.drop 211 = dktX8_next_9 := dk_seg dksX8_next_8 22 rfl rfl
theorem dksX8_next_10 : cX8_next.data.toList.drop 234 = dktX8_next_10 := dk_seg dksX8_next_9 23 rfl rfl
theorem dX8_next_0 : decode cX8_next 0 = .ok (.aload_n 0, 1) := dk_42 (dk_at dksX8_next_0 0 rfl rfl)
theorem dX8_next_1 : decode cX8_next 1 = .ok (.bipush 32, 2) := dk_16 32 (dk_at dksX8_next_0 1 rfl rfl)
theorem dX8_next_3 : decode cX8_next 3 = .ok (.bipush 32, 2) := dk_16 32 (dk_at dksX8_next_0 3 rfl rfl)
theorem dX8_next_5 : decode cX8_next 5 = .ok (.invokevirtual 78, 3) := dk_182 0 78 (dk_at dksX8_next_0 5 rfl rfl)
theorem dX8_next_8 : decode cX8_next 8 = .ok (.ifCond .eq 16, 3) := dk_153 0 16 (dk_at dksX8_next_0 8 rfl rfl)
theorem dX8_next_11 : decode cX8_next 11 = .ok (.aload_n 0, 1) := dk_42 (dk_at dksX8_next_0 11 rfl rfl)
theorem dX8_next_12 : decode cX8_next 12 = .ok (.dup, 1) := dk_89 (dk_at dksX8_next_0 12 rfl rfl)
theorem dX8_next_13 : decode cX8_next 13 = .ok (.getfield 32, 3) := dk_180 0 32 (dk_at dksX8_next_0 13 rfl rfl)
theorem dX8_next_16 : decode cX8_next 16 = .ok (.iconst 1, 1) := dk_4 (dk_at dksX8_next_0 16 rfl rfl)
theorem dX8_next_17 : decode cX8_next 17 = .ok (.iadd, 1) := dk_96 (dk_at dksX8_next_0 17 rfl rfl)
theorem dX8_next_18 : decode cX8_next 18 = .ok (.putfield 32, 3) := dk_181 0 32 (dk_at dksX8_next_0 18 rfl rfl)
theorem dX8_next_21 : decode cX8_next 21 = .ok (.goto (-21), 3) := dk_167 255 235 (dk_at dksX8_next_0 21 rfl rfl)
theorem dX8_next_24 : decode cX8_next 24 = .ok (.aload_n 0, 1) := dk_42 (dk_at dksX8_next_1 0 rfl rfl)
theorem dX8_next_25 : decode cX8_next 25 = .ok (.aload_n 0, 1) := dk_42 (dk_at dksX8_next_1 1 rfl rfl)
theorem dX8_next_26 : decode cX8_next 26 = .ok (.getfield 32, 3) := dk_180 0 32 (dk_at dksX8_next_1 2 rfl rfl)
theorem dX8_next_29 : decode cX8_next 29 = .ok (.putfield 41, 3) := dk_181 0 41 (dk_at dksX8_next_1 5 rfl rfl)
theorem dX8_next_32 : decode cX8_next 32 = .ok (.aload_n 0, 1) := dk_42 (dk_at dksX8_next_1 8 rfl rfl)
theorem dX8_next_33 : decode cX8_next 33 = .ok (.getfield 32, 3) := dk_180 0 32 (dk_at dksX8_next_1 9 rfl rfl)
theorem dX8_next_36 : decode cX8_next 36 = .ok (.aload_n 0, 1) := dk_42 (dk_at dksX8_next_1 12 rfl rfl)
theorem dX8_next_37 : decode cX8_next 37 = .ok (.getfield 26, 3) := dk_180 0 26 (dk_at dksX8_next_1 13 rfl rfl)
theorem dX8_next_40 : decode cX8_next 40 = .ok (.if_icmp .ne 11, 3) := dk_160 0 11 (dk_at dksX8_next_1 16 rfl rfl)
theorem dX8_next_43 : decode cX8_next 43 = .ok (.aload_n 0, 1) := dk_42 (dk_at dksX8_next_1 19 rfl rfl)
theorem dX8_next_44 : decode cX8_next 44 = .ok (.iconst 0, 1) := dk_3 (dk_at dksX8_next_1 20 rfl rfl)
theorem dX8_next_45 : decode cX8_next 45 = .ok (.putfield 65, 3) := dk_181 0 65 (dk_at dksX8_next_1 21 rfl rfl)
theorem dX8_next_48 : decode cX8_next 48 = .ok (.goto 189, 3) := dk_167 0 189 (dk_at dksX8_next_2 0 rfl rfl)
theorem dX8_next_51 : decode cX8_next 51 = .ok (.aload_n 0, 1) := dk_42 (dk_at dksX8_next_2 3 rfl rfl)
theorem dX8_next_52 : decode cX8_next 52 = .ok (.bipush 97, 2) := dk_16 97 (dk_at dksX8_next_2 4 rfl rfl)
theorem dX8_next_54 : decode cX8_next 54 = .ok (.bipush 122, 2) := dk_16 122 (dk_at dksX8_next_2 6 rfl rfl)
theorem dX8_next_56 : decode cX8_next 56 = .ok (.invokevirtual 78, 3) := dk_182 0 78 (dk_at dksX8_next_2 8 rfl rfl)
theorem dX8_next_59 : decode cX8_next 59 = .ok (.ifCond .eq 32, 3) := dk_153 0 32 (dk_at dksX8_next_2 11 rfl rfl)
theorem dX8_next_62 : decode cX8_next 62 = .ok (.aload_n 0, 1) := dk_42 (dk_at dksX8_next_2 14 rfl rfl)
theorem dX8_next_63 : decode cX8_next 63 = .ok (.iconst 1, 1) := dk_4 (dk_at dksX8_next_2 15 rfl rfl)
theorem dX8_next_64 : decode cX8_next 64 = .ok (.putfield 65, 3) := dk_181 0 65 (dk_at dksX8_next_2 16 rfl rfl)
theorem dX8_next_67 : decode cX8_next 67 = .ok (.aload_n 0, 1) := dk_42 (dk_at dksX8_next_2 19 rfl rfl)
theorem dX8_next_68 : decode cX8_next 68 = .ok (.bipush 97, 2) := dk_16 97 (dk_at dksX8_next_2 20 rfl rfl)
theorem dX8_next_70 : decode cX8_next 70 = .ok (.bipush 122, 2) := dk_16 122 (dk_at dksX8_next_2 22 rfl rfl)
theorem dX8_next_72 : decode cX8_next 72 = .ok (.invokevirtual 78, 3) := dk_182 0 78 (dk_at dksX8_next_3 0 rfl rfl)
theorem dX8_next_75 : decode cX8_next 75 = .ok (.ifCond .eq 162, 3) := dk_153 0 162 (dk_at dksX8_next_3 3 rfl rfl)
theorem dX8_next_78 : decode cX8_next 78 = .ok (.aload_n 0, 1) := dk_42 (dk_at dksX8_next_3 6 rfl rfl)
theorem dX8_next_79 : decode cX8_next 79 = .ok (.dup, 1) := dk_89 (dk_at dksX8_next_3 7 rfl rfl)
theorem dX8_next_80 : decode cX8_next 80 = .ok (.getfield 32, 3) := dk_180 0 32 (dk_at dksX8_next_3 8 rfl rfl)
theorem dX8_next_83 : decode cX8_next 83 = .ok (.iconst 1, 1) := dk_4 (dk_at dksX8_next_3 11 rfl rfl)
theorem dX8_next_84 : decode cX8_next 84 = .ok (.iadd, 1) := dk_96 (dk_at dksX8_next_3 12 rfl rfl)
theorem dX8_next_85 : decode cX8_next 85 = .ok (.putfield 32, 3) := dk_181 0 32 (dk_at dksX8_next_3 13 rfl rfl)
theorem dX8_next_88 : decode cX8_next 88 = .ok (.goto (-21), 3) := dk_167 255 235 (dk_at dksX8_next_3 16 rfl rfl)
theorem dX8_next_91 : decode cX8_next 91 = .ok (.aload_n 0, 1) := dk_42 (dk_at dksX8_next_3 19 rfl rfl)
theorem dX8_next_92 : decode cX8_next 92 = .ok (.bipush 48, 2) := dk_16 48 (dk_at dksX8_next_3 20 rfl rfl)
theorem dX8_next_94 : decode cX8_next 94 = .ok (.bipush 57, 2) := dk_16 57 (dk_at dksX8_next_3 22 rfl rfl)
theorem dX8_next_96 : decode cX8_next 96 = .ok (.invokevirtual 78, 3) := dk_182 0 78 (dk_at dksX8_next_4 0 rfl rfl)
theorem dX8_next_99 : decode cX8_next 99 = .ok (.ifCond .eq 110, 3) := dk_153 0 110 (dk_at dksX8_next_4 3 rfl rfl)
theorem dX8_next_102 : decode cX8_next 102 = .ok (.aload_n 0, 1) := dk_42 (dk_at dksX8_next_4 6 rfl rfl)
theorem dX8_next_103 : decode cX8_next 103 = .ok (.iconst 2, 1) := dk_5 (dk_at dksX8_next_4 7 rfl rfl)
theorem dX8_next_104 : decode cX8_next 104 = .ok (.putfield 65, 3) := dk_181 0 65 (dk_at dksX8_next_4 8 rfl rfl)
theorem dX8_next_107 : decode cX8_next 107 = .ok (.aload_n 0, 1) := dk_42 (dk_at dksX8_next_4 11 rfl rfl)
theorem dX8_next_108 : decode cX8_next 108 = .ok (.iconst 0, 1) := dk_3 (dk_at dksX8_next_4 12 rfl rfl)
theorem dX8_next_109 : decode cX8_next 109 = .ok (.putfield 82, 3) := dk_181 0 82 (dk_at dksX8_next_4 13 rfl rfl)
theorem dX8_next_112 : decode cX8_next 112 = .ok (.aload_n 0, 1) := dk_42 (dk_at dksX8_next_4 16 rfl rfl)
theorem dX8_next_113 : decode cX8_next 113 = .ok (.bipush 48, 2) := dk_16 48 (dk_at dksX8_next_4 17 rfl rfl)
theorem dX8_next_115 : decode cX8_next 115 = .ok (.bipush 57, 2) := dk_16 57 (dk_at dksX8_next_4 19 rfl rfl)
theorem dX8_next_117 : decode cX8_next 117 = .ok (.invokevirtual 78, 3) := dk_182 0 78 (dk_at dksX8_next_4 21 rfl rfl)
theorem dX8_next_120 : decode cX8_next 120 = .ok (.ifCond .eq 63, 3) := dk_153 0 63 (dk_at dksX8_next_5 0 rfl rfl)
theorem dX8_next_123 : decode cX8_next 123 = .ok (.aload_n 0, 1) := dk_42 (dk_at dksX8_next_5 3 rfl rfl)
theorem dX8_next_124 : decode cX8_next 124 = .ok (.aload_n 0, 1) := dk_42 (dk_at dksX8_next_5 4 rfl rfl)
theorem dX8_next_125 : decode cX8_next 125 = .ok (.getfield 32, 3) := dk_180 0 32 (dk_at dksX8_next_5 5 rfl rfl)
theorem dX8_next_128 : decode cX8_next 128 = .ok (.aload_n 0, 1) := dk_42 (dk_at dksX8_next_5 8 rfl rfl)
theorem dX8_next_129 : decode cX8_next 129 = .ok (.getfield 41, 3) := dk_180 0 41 (dk_at dksX8_next_5 9 rfl rfl)
theorem dX8_next_132 : decode cX8_next 132 = .ok (.isub, 1) := dk_100 (dk_at dksX8_next_5 12 rfl rfl)
theorem dX8_next_133 : decode cX8_next 133 = .ok (.iconst 2, 1) := dk_5 (dk_at dksX8_next_5 13 rfl rfl)
theorem dX8_next_134 : decode cX8_next 134 = .ok (.if_icmp .ge 29, 3) := dk_162 0 29 (dk_at dksX8_next_5 14 rfl rfl)
theorem dX8_next_137 : decode cX8_next 137 = .ok (.bipush 10, 2) := dk_16 10 (dk_at dksX8_next_5 17 rfl rfl)
theorem dX8_next_139 : decode cX8_next 139 = .ok (.aload_n 0, 1) := dk_42 (dk_at dksX8_next_5 19 rfl rfl)
theorem dX8_next_140 : decode cX8_next 140 = .ok (.getfield 82, 3) := dk_180 0 82 (dk_at dksX8_next_5 20 rfl rfl)
theorem dX8_next_143 : decode cX8_next 143 = .ok (.imul, 1) := dk_104 (dk_at dksX8_next_5 23 rfl rfl)
theorem dX8_next_144 : decode cX8_next 144 = .ok (.aload_n 0, 1) := dk_42 (dk_at dksX8_next_6 0 rfl rfl)
theorem dX8_next_145 : decode cX8_next 145 = .ok (.getfield 3, 3) := dk_180 0 3 (dk_at dksX8_next_6 1 rfl rfl)
theorem dX8_next_148 : decode cX8_next 148 = .ok (.getfield 35, 3) := dk_180 0 35 (dk_at dksX8_next_6 4 rfl rfl)
theorem dX8_next_151 : decode cX8_next 151 = .ok (.aload_n 0, 1) := dk_42 (dk_at dksX8_next_6 7 rfl rfl)
theorem dX8_next_152 : decode cX8_next 152 = .ok (.getfield 32, 3) := dk_180 0 32 (dk_at dksX8_next_6 8 rfl rfl)
theorem dX8_next_155 : decode cX8_next 155 = .ok (.baload, 1) := dk_51 (dk_at dksX8_next_6 11 rfl rfl)
theorem dX8_next_156 : decode cX8_next 156 = .ok (.iadd, 1) := dk_96 (dk_at dksX8_next_6 12 rfl rfl)
theorem dX8_next_157 : decode cX8_next 157 = .ok (.bipush 48, 2) := dk_16 48 (dk_at dksX8_next_6 13 rfl rfl)
theorem dX8_next_159 : decode cX8_next 159 = .ok (.isub, 1) := dk_100 (dk_at dksX8_next_6 15 rfl rfl)
theorem dX8_next_160 : decode cX8_next 160 = .ok (.goto 7, 3) := dk_167 0 7 (dk_at dksX8_next_6 16 rfl rfl)
theorem dX8_next_163 : decode cX8_next 163 = .ok (.aload_n 0, 1) := dk_42 (dk_at dksX8_next_6 19 rfl rfl)
theorem dX8_next_164 : decode cX8_next 164 = .ok (.getfield 82, 3) := dk_180 0 82 (dk_at dksX8_next_6 20 rfl rfl)
theorem dX8_next_167 : decode cX8_next 167 = .ok (.putfield 82, 3) := dk_181 0 82 (dk_at dksX8_next_7 0 rfl rfl)
theorem dX8_next_170 : decode cX8_next 170 = .ok (.aload_n 0, 1) := dk_42 (dk_at dksX8_next_7 3 rfl rfl)
theorem dX8_next_171 : decode cX8_next 171 = .ok (.dup, 1) := dk_89 (dk_at dksX8_next_7 4 rfl rfl)
theorem dX8_next_172 : decode cX8_next 172 = .ok (.getfield 32, 3) := dk_180 0 32 (dk_at dksX8_next_7 5 rfl rfl)
theorem dX8_next_175 : decode cX8_next 175 = .ok (.iconst 1, 1) := dk_4 (dk_at dksX8_next_7 8 rfl rfl)
theorem dX8_next_176 : decode cX8_next 176 = .ok (.iadd, 1) := dk_96 (dk_at dksX8_next_7 9 rfl rfl)
theorem dX8_next_177 : decode cX8_next 177 = .ok (.putfield 32, 3) := dk_181 0 32 (dk_at dksX8_next_7 10 rfl rfl)
theorem dX8_next_180 : decode cX8_next 180 = .ok (.goto (-68), 3) := dk_167 255 188 (dk_at dksX8_next_7 13 rfl rfl)
theorem dX8_next_183 : decode cX8_next 183 = .ok (.aload_n 0, 1) := dk_42 (dk_at dksX8_next_7 16 rfl rfl)
theorem dX8_next_184 : decode cX8_next 184 = .ok (.aload_n 0, 1) := dk_42 (dk_at dksX8_next_7 17 rfl rfl)
theorem dX8_next_185 : decode cX8_next 185 = .ok (.getfield 32, 3) := dk_180 0 32 (dk_at dksX8_next_7 18 rfl rfl)
theorem dX8_next_188 : decode cX8_next 188 = .ok (.aload_n 0, 1) := dk_42 (dk_at dksX8_next_7 21 rfl rfl)
theorem dX8_next_189 : decode cX8_next 189 = .ok (.getfield 41, 3) := dk_180 0 41 (dk_at dksX8_next_8 0 rfl rfl)
theorem dX8_next_192 : decode cX8_next 192 = .ok (.isub, 1) := dk_100 (dk_at dksX8_next_8 3 rfl rfl)
theorem dX8_next_193 : decode cX8_next 193 = .ok (.iconst 3, 1) := dk_6 (dk_at dksX8_next_8 4 rfl rfl)
theorem dX8_next_194 : decode cX8_next 194 = .ok (.if_icmp .ge 7, 3) := dk_162 0 7 (dk_at dksX8_next_8 5 rfl rfl)
theorem dX8_next_197 : decode cX8_next 197 = .ok (.iconst 1, 1) := dk_4 (dk_at dksX8_next_8 8 rfl rfl)
theorem dX8_next_198 : decode cX8_next 198 = .ok (.goto 4, 3) := dk_167 0 4 (dk_at dksX8_next_8 9 rfl rfl)
theorem dX8_next_201 : decode cX8_next 201 = .ok (.iconst 0, 1) := dk_3 (dk_at dksX8_next_8 12 rfl rfl)
theorem dX8_next_202 : decode cX8_next 202 = .ok (.iconst 1, 1) := dk_4 (dk_at dksX8_next_8 13 rfl rfl)
theorem dX8_next_203 : decode cX8_next 203 = .ok (.invokevirtual 85, 3) := dk_182 0 85 (dk_at dksX8_next_8 14 rfl rfl)
theorem dX8_next_206 : decode cX8_next 206 = .ok (.goto 31, 3) := dk_167 0 31 (dk_at dksX8_next_8 17 rfl rfl)
theorem dX8_next_209 : decode cX8_next 209 = .ok (.aload_n 0, 1) := dk_42 (dk_at dksX8_next_8 20 rfl rfl)
theorem dX8_next_210 : decode cX8_next 210 = .ok (.iconst 3, 1) := dk_6 (dk_at dksX8_next_8 21 rfl rfl)
theorem dX8_next_211 : decode cX8_next 211 = .ok (.putfield 65, 3) := dk_181 0 65 (dk_at dksX8_next_9 0 rfl rfl)
theorem dX8_next_214 : decode cX8_next 214 = .ok (.aload_n 0, 1) := dk_42 (dk_at dksX8_next_9 3 rfl rfl)
theorem dX8_next_215 : decode cX8_next 215 = .ok (.aload_n 0, 1) := dk_42 (dk_at dksX8_next_9 4 rfl rfl)
theorem dX8_next_216 : decode cX8_next 216 = .ok (.bipush 59, 2) := dk_16 59 (dk_at dksX8_next_9 5 rfl rfl)
theorem dX8_next_218 : decode cX8_next 218 = .ok (.bipush 59, 2) := dk_16 59 (dk_at dksX8_next_9 7 rfl rfl)
theorem dX8_next_220 : decode cX8_next 220 = .ok (.invokevirtual 78, 3) := dk_182 0 78 (dk_at dksX8_next_9 9 rfl rfl)
theorem dX8_next_223 : decode cX8_next 223 = .ok (.iconst 1, 1) := dk_4 (dk_at dksX8_next_9 12 rfl rfl)
theorem dX8_next_224 : decode cX8_next 224 = .ok (.invokevirtual 85, 3) := dk_182 0 85 (dk_at dksX8_next_9 13 rfl rfl)
theorem dX8_next_227 : decode cX8_next 227 = .ok (.aload_n 0, 1) := dk_42 (dk_at dksX8_next_9 16 rfl rfl)
theorem dX8_next_228 : decode cX8_next 228 = .ok (.dup, 1) := dk_89 (dk_at dksX8_next_9 17 rfl rfl)
theorem dX8_next_229 : decode cX8_next 229 = .ok (.getfield 32, 3) := dk_180 0 32 (dk_at dksX8_next_9 18 rfl rfl)
theorem dX8_next_232 : decode cX8_next 232 = .ok (.iconst 1, 1) := dk_4 (dk_at dksX8_next_9 21 rfl rfl)
theorem dX8_next_233 : decode cX8_next 233 = .ok (.iadd, 1) := dk_96 (dk_at dksX8_next_9 22 rfl rfl)
theorem dX8_next_234 : decode cX8_next 234 = .ok (.putfield 32, 3) := dk_181 0 32 (dk_at dksX8_next_10 0 rfl rfl)
theorem dX8_next_237 : decode cX8_next 237 = .ok (.return_, 1) := dk_177 (dk_at dksX8_next_10 3 rfl rfl)
abbrev cX8_isIn : ByteArray := prog_6_method_2_code
def yX8_isIn : MethodName := ⟨RX8, "isIn", "(CC)Z"⟩
def dkwX8_isIn_2 : List UInt8 := [172]
abbrev dktX8_isIn_2 : List UInt8 := dkwX8_isIn_2 ++ []
def dkwX8_isIn_1 : List UInt8 := [161, 0, 23, 42, 180, 0, 3, 180, 0, 35, 42, 180, 0, 32, 51, 28, 163, 0, 7, 4, 167, 0, 4, 3]
abbrev dktX8_isIn_1 : List UInt8 := dkwX8_isIn_1 ++ dktX8_isIn_2
def dkwX8_isIn_0 : List UInt8 := [42, 180, 0, 32, 42, 180, 0, 26, 162, 0, 39, 42, 180, 0, 3, 180, 0, 35, 42, 180, 0, 32, 51, 27]
abbrev dktX8_isIn_0 : List UInt8 := dkwX8_isIn_0 ++ dktX8_isIn_1
theorem dksX8_isIn_0 : cX8_isIn.data.toList.drop 0 = dktX8_isIn_0 := by decide +kernel
theorem dksX8_isIn_1 : cX8_isIn.data.toList.drop 24 = dktX8_isIn_1 := dk_seg dksX8_isIn_0 24 rfl rfl
theorem dksX8_isIn_2 : cX8_isIn.data.toList.drop 48 = dktX8_isIn_2 := dk_seg dksX8_isIn_1 24 rfl rfl
theorem dX8_isIn_0 : decode cX8_isIn 0 = .ok (.aload_n 0, 1) := dk_42 (dk_at dksX8_isIn_0 0 rfl rfl)
theorem dX8_isIn_1 : decode cX8_isIn 1 = .ok (.getfield 32, 3) := dk_180 0 32 (dk_at dksX8_isIn_0 1 rfl rfl)
theorem dX8_isIn_4 : decode cX8_isIn 4 = .ok (.aload_n 0, 1) := dk_42 (dk_at dksX8_isIn_0 4 rfl rfl)
theorem dX8_isIn_5 : decode cX8_isIn 5 = .ok (.getfield 26, 3) := dk_180 0 26 (dk_at dksX8_isIn_0 5 rfl rfl)
theorem dX8_isIn_8 : decode cX8_isIn 8 = .ok (.if_icmp .ge 39, 3) := dk_162 0 39 (dk_at dksX8_isIn_0 8 rfl rfl)
theorem dX8_isIn_11 : decode cX8_isIn 11 = .ok (.aload_n 0, 1) := dk_42 (dk_at dksX8_isIn_0 11 rfl rfl)
theorem dX8_isIn_12 : decode cX8_isIn 12 = .ok (.getfield 3, 3) := dk_180 0 3 (dk_at dksX8_isIn_0 12 rfl rfl)
theorem dX8_isIn_15 : decode cX8_isIn 15 = .ok (.getfield 35, 3) := dk_180 0 35 (dk_at dksX8_isIn_0 15 rfl rfl)
theorem dX8_isIn_18 : decode cX8_isIn 18 = .ok (.aload_n 0, 1) := dk_42 (dk_at dksX8_isIn_0 18 rfl rfl)
theorem dX8_isIn_19 : decode cX8_isIn 19 = .ok (.getfield 32, 3) := dk_180 0 32 (dk_at dksX8_isIn_0 19 rfl rfl)
theorem dX8_isIn_22 : decode cX8_isIn 22 = .ok (.baload, 1) := dk_51 (dk_at dksX8_isIn_0 22 rfl rfl)
theorem dX8_isIn_23 : decode cX8_isIn 23 = .ok (.iload_n 1, 1) := dk_27 (dk_at dksX8_isIn_0 23 rfl rfl)
theorem dX8_isIn_24 : decode cX8_isIn 24 = .ok (.if_icmp .lt 23, 3) := dk_161 0 23 (dk_at dksX8_isIn_1 0 rfl rfl)
theorem dX8_isIn_27 : decode cX8_isIn 27 = .ok (.aload_n 0, 1) := dk_42 (dk_at dksX8_isIn_1 3 rfl rfl)
theorem dX8_isIn_28 : decode cX8_isIn 28 = .ok (.getfield 3, 3) := dk_180 0 3 (dk_at dksX8_isIn_1 4 rfl rfl)
theorem dX8_isIn_31 : decode cX8_isIn 31 = .ok (.getfield 35, 3) := dk_180 0 35 (dk_at dksX8_isIn_1 7 rfl rfl)
theorem dX8_isIn_34 : decode cX8_isIn 34 = .ok (.aload_n 0, 1) := dk_42 (dk_at dksX8_isIn_1 10 rfl rfl)
theorem dX8_isIn_35 : decode cX8_isIn 35 = .ok (.getfield 32, 3) := dk_180 0 32 (dk_at dksX8_isIn_1 11 rfl rfl)
theorem dX8_isIn_38 : decode cX8_isIn 38 = .ok (.baload, 1) := dk_51 (dk_at dksX8_isIn_1 14 rfl rfl)
theorem dX8_isIn_39 : decode cX8_isIn 39 = .ok (.iload_n 2, 1) := dk_28 (dk_at dksX8_isIn_1 15 rfl rfl)
theorem dX8_isIn_40 : decode cX8_isIn 40 = .ok (.if_icmp .gt 7, 3) := dk_163 0 7 (dk_at dksX8_isIn_1 16 rfl rfl)
theorem dX8_isIn_43 : decode cX8_isIn 43 = .ok (.iconst 1, 1) := dk_4 (dk_at dksX8_isIn_1 19 rfl rfl)
theorem dX8_isIn_44 : decode cX8_isIn 44 = .ok (.goto 4, 3) := dk_167 0 4 (dk_at dksX8_isIn_1 20 rfl rfl)
theorem dX8_isIn_47 : decode cX8_isIn 47 = .ok (.iconst 0, 1) := dk_3 (dk_at dksX8_isIn_1 23 rfl rfl)
theorem dX8_isIn_48 : decode cX8_isIn 48 = .ok (.ireturn, 1) := dk_172 (dk_at dksX8_isIn_2 0 rfl rfl)
abbrev cX8_need : ByteArray := prog_6_method_3_code
def yX8_need : MethodName := ⟨RX8, "need", "(ZI)V"⟩
def dkwX8_need_0 : List UInt8 := [27, 154, 0, 16, 187, 0, 39, 89, 28, 42, 180, 0, 41, 183, 0, 44, 191, 177]
abbrev dktX8_need_0 : List UInt8 := dkwX8_need_0 ++ []
theorem dksX8_need_0 : cX8_need.data.toList.drop 0 = dktX8_need_0 := by decide +kernel
theorem dX8_need_0 : decode cX8_need 0 = .ok (.iload_n 1, 1) := dk_27 (dk_at dksX8_need_0 0 rfl rfl)
theorem dX8_need_1 : decode cX8_need 1 = .ok (.ifCond .ne 16, 3) := dk_154 0 16 (dk_at dksX8_need_0 1 rfl rfl)
theorem dX8_need_4 : decode cX8_need 4 = .ok (.new 39, 3) := dk_187 0 39 (dk_at dksX8_need_0 4 rfl rfl)
theorem dX8_need_7 : decode cX8_need 7 = .ok (.dup, 1) := dk_89 (dk_at dksX8_need_0 7 rfl rfl)
theorem dX8_need_8 : decode cX8_need 8 = .ok (.iload_n 2, 1) := dk_28 (dk_at dksX8_need_0 8 rfl rfl)
theorem dX8_need_9 : decode cX8_need 9 = .ok (.aload_n 0, 1) := dk_42 (dk_at dksX8_need_0 9 rfl rfl)
theorem dX8_need_10 : decode cX8_need 10 = .ok (.getfield 41, 3) := dk_180 0 41 (dk_at dksX8_need_0 10 rfl rfl)
theorem dX8_need_13 : decode cX8_need 13 = .ok (.invokespecial 44, 3) := dk_183 0 44 (dk_at dksX8_need_0 13 rfl rfl)
theorem dX8_need_16 : decode cX8_need 16 = .ok (.athrow, 1) := dk_191 (dk_at dksX8_need_0 16 rfl rfl)
theorem dX8_need_17 : decode cX8_need 17 = .ok (.return_, 1) := dk_177 (dk_at dksX8_need_0 17 rfl rfl)
abbrev cX8_lines : ByteArray := prog_6_method_13_code
def yX8_lines : MethodName := ⟨RX8, "lines", "()I"⟩
def dkwX8_lines_1 : List UInt8 := [42, 180, 0, 18, 180, 0, 129, 162, 0, 7, 4, 167, 0, 4, 3, 16, 6, 182, 0, 85, 27, 172]
abbrev dktX8_lines_1 : List UInt8 := dkwX8_lines_1 ++ []
def dkwX8_lines_0 : List UInt8 := [3, 60, 42, 180, 0, 65, 153, 0, 13, 42, 182, 0, 147, 132, 1, 1, 167, 255, 242, 42, 42, 180, 0, 22]
abbrev dktX8_lines_0 : List UInt8 := dkwX8_lines_0 ++ dktX8_lines_1
theorem dksX8_lines_0 : cX8_lines.data.toList.drop 0 = dktX8_lines_0 := by decide +kernel
theorem dksX8_lines_1 : cX8_lines.data.toList.drop 24 = dktX8_lines_1 := dk_seg dksX8_lines_0 24 rfl rfl
theorem dX8_lines_0 : decode cX8_lines 0 = .ok (.iconst 0, 1) := dk_3 (dk_at dksX8_lines_0 0 rfl rfl)
theorem dX8_lines_1 : decode cX8_lines 1 = .ok (.istore_n 1, 1) := dk_60 (dk_at dksX8_lines_0 1 rfl rfl)
theorem dX8_lines_2 : decode cX8_lines 2 = .ok (.aload_n 0, 1) := dk_42 (dk_at dksX8_lines_0 2 rfl rfl)
theorem dX8_lines_3 : decode cX8_lines 3 = .ok (.getfield 65, 3) := dk_180 0 65 (dk_at dksX8_lines_0 3 rfl rfl)
theorem dX8_lines_6 : decode cX8_lines 6 = .ok (.ifCond .eq 13, 3) := dk_153 0 13 (dk_at dksX8_lines_0 6 rfl rfl)
theorem dX8_lines_9 : decode cX8_lines 9 = .ok (.aload_n 0, 1) := dk_42 (dk_at dksX8_lines_0 9 rfl rfl)
theorem dX8_lines_10 : decode cX8_lines 10 = .ok (.invokevirtual 147, 3) := dk_182 0 147 (dk_at dksX8_lines_0 10 rfl rfl)
theorem dX8_lines_13 : decode cX8_lines 13 = .ok (.iinc 1 1, 3) := dk_132 1 1 (dk_at dksX8_lines_0 13 rfl rfl)
theorem dX8_lines_16 : decode cX8_lines 16 = .ok (.goto (-14), 3) := dk_167 255 242 (dk_at dksX8_lines_0 16 rfl rfl)
theorem dX8_lines_19 : decode cX8_lines 19 = .ok (.aload_n 0, 1) := dk_42 (dk_at dksX8_lines_0 19 rfl rfl)
theorem dX8_lines_20 : decode cX8_lines 20 = .ok (.aload_n 0, 1) := dk_42 (dk_at dksX8_lines_0 20 rfl rfl)
theorem dX8_lines_21 : decode cX8_lines 21 = .ok (.getfield 22, 3) := dk_180 0 22 (dk_at dksX8_lines_0 21 rfl rfl)
theorem dX8_lines_24 : decode cX8_lines 24 = .ok (.aload_n 0, 1) := dk_42 (dk_at dksX8_lines_1 0 rfl rfl)
theorem dX8_lines_25 : decode cX8_lines 25 = .ok (.getfield 18, 3) := dk_180 0 18 (dk_at dksX8_lines_1 1 rfl rfl)
theorem dX8_lines_28 : decode cX8_lines 28 = .ok (.getfield 129, 3) := dk_180 0 129 (dk_at dksX8_lines_1 4 rfl rfl)
theorem dX8_lines_31 : decode cX8_lines 31 = .ok (.if_icmp .ge 7, 3) := dk_162 0 7 (dk_at dksX8_lines_1 7 rfl rfl)
theorem dX8_lines_34 : decode cX8_lines 34 = .ok (.iconst 1, 1) := dk_4 (dk_at dksX8_lines_1 10 rfl rfl)
theorem dX8_lines_35 : decode cX8_lines 35 = .ok (.goto 4, 3) := dk_167 0 4 (dk_at dksX8_lines_1 11 rfl rfl)
theorem dX8_lines_38 : decode cX8_lines 38 = .ok (.iconst 0, 1) := dk_3 (dk_at dksX8_lines_1 14 rfl rfl)
theorem dX8_lines_39 : decode cX8_lines 39 = .ok (.bipush 6, 2) := dk_16 6 (dk_at dksX8_lines_1 15 rfl rfl)
theorem dX8_lines_41 : decode cX8_lines 41 = .ok (.invokevirtual 85, 3) := dk_182 0 85 (dk_at dksX8_lines_1 17 rfl rfl)
theorem dX8_lines_44 : decode cX8_lines 44 = .ok (.iload_n 1, 1) := dk_27 (dk_at dksX8_lines_1 20 rfl rfl)
theorem dX8_lines_45 : decode cX8_lines 45 = .ok (.ireturn, 1) := dk_172 (dk_at dksX8_lines_1 21 rfl rfl)
abbrev cX8_line : ByteArray := prog_6_method_12_code
def yX8_line : MethodName := ⟨RX8, "line", "()V"⟩
def dkwX8_line_3 : List UInt8 := [182, 0, 85, 42, 182, 0, 29, 177]
abbrev dktX8_line_3 : List UInt8 := dkwX8_line_3 ++ []
def dkwX8_line_2 : List UInt8 := [42, 182, 0, 29, 42, 27, 182, 0, 144, 42, 42, 180, 0, 65, 6, 160, 0, 7, 4, 167, 0, 4, 3, 5]
abbrev dktX8_line_2 : List UInt8 := dkwX8_line_2 ++ dktX8_line_3
def dkwX8_line_1 : List UInt8 := [16, 6, 163, 0, 7, 4, 167, 0, 4, 3, 5, 182, 0, 85, 42, 42, 27, 182, 0, 141, 8, 182, 0, 85]
abbrev dktX8_line_1 : List UInt8 := dkwX8_line_1 ++ dktX8_line_2
def dkwX8_line_0 : List UInt8 := [3, 60, 27, 16, 6, 163, 0, 17, 42, 27, 182, 0, 138, 154, 0, 9, 132, 1, 1, 167, 255, 239, 42, 27]
abbrev dktX8_line_0 : List UInt8 := dkwX8_line_0 ++ dktX8_line_1
theorem dksX8_line_0 : cX8_line.data.toList.drop 0 = dktX8_line_0 := by decide +kernel
theorem dksX8_line_1 : cX8_line.data.toList.drop 24 = dktX8_line_1 := dk_seg dksX8_line_0 24 rfl rfl
theorem dksX8_line_2 : cX8_line.data.toList.drop 48 = dktX8_line_2 := dk_seg dksX8_line_1 24 rfl rfl
theorem dksX8_line_3 : cX8_line.data.toList.drop 72 = dktX8_line_3 := dk_seg dksX8_line_2 24 rfl rfl
theorem dX8_line_0 : decode cX8_line 0 = .ok (.iconst 0, 1) := dk_3 (dk_at dksX8_line_0 0 rfl rfl)
theorem dX8_line_1 : decode cX8_line 1 = .ok (.istore_n 1, 1) := dk_60 (dk_at dksX8_line_0 1 rfl rfl)
theorem dX8_line_2 : decode cX8_line 2 = .ok (.iload_n 1, 1) := dk_27 (dk_at dksX8_line_0 2 rfl rfl)
theorem dX8_line_3 : decode cX8_line 3 = .ok (.bipush 6, 2) := dk_16 6 (dk_at dksX8_line_0 3 rfl rfl)
theorem dX8_line_5 : decode cX8_line 5 = .ok (.if_icmp .gt 17, 3) := dk_163 0 17 (dk_at dksX8_line_0 5 rfl rfl)
theorem dX8_line_8 : decode cX8_line 8 = .ok (.aload_n 0, 1) := dk_42 (dk_at dksX8_line_0 8 rfl rfl)
theorem dX8_line_9 : decode cX8_line 9 = .ok (.iload_n 1, 1) := dk_27 (dk_at dksX8_line_0 9 rfl rfl)
theorem dX8_line_10 : decode cX8_line 10 = .ok (.invokevirtual 138, 3) := dk_182 0 138 (dk_at dksX8_line_0 10 rfl rfl)
theorem dX8_line_13 : decode cX8_line 13 = .ok (.ifCond .ne 9, 3) := dk_154 0 9 (dk_at dksX8_line_0 13 rfl rfl)
theorem dX8_line_16 : decode cX8_line 16 = .ok (.iinc 1 1, 3) := dk_132 1 1 (dk_at dksX8_line_0 16 rfl rfl)
theorem dX8_line_19 : decode cX8_line 19 = .ok (.goto (-17), 3) := dk_167 255 239 (dk_at dksX8_line_0 19 rfl rfl)
theorem dX8_line_22 : decode cX8_line 22 = .ok (.aload_n 0, 1) := dk_42 (dk_at dksX8_line_0 22 rfl rfl)
theorem dX8_line_23 : decode cX8_line 23 = .ok (.iload_n 1, 1) := dk_27 (dk_at dksX8_line_0 23 rfl rfl)
theorem dX8_line_24 : decode cX8_line 24 = .ok (.bipush 6, 2) := dk_16 6 (dk_at dksX8_line_1 0 rfl rfl)
theorem dX8_line_26 : decode cX8_line 26 = .ok (.if_icmp .gt 7, 3) := dk_163 0 7 (dk_at dksX8_line_1 2 rfl rfl)
theorem dX8_line_29 : decode cX8_line 29 = .ok (.iconst 1, 1) := dk_4 (dk_at dksX8_line_1 5 rfl rfl)
theorem dX8_line_30 : decode cX8_line 30 = .ok (.goto 4, 3) := dk_167 0 4 (dk_at dksX8_line_1 6 rfl rfl)
theorem dX8_line_33 : decode cX8_line 33 = .ok (.iconst 0, 1) := dk_3 (dk_at dksX8_line_1 9 rfl rfl)
theorem dX8_line_34 : decode cX8_line 34 = .ok (.iconst 2, 1) := dk_5 (dk_at dksX8_line_1 10 rfl rfl)
theorem dX8_line_35 : decode cX8_line 35 = .ok (.invokevirtual 85, 3) := dk_182 0 85 (dk_at dksX8_line_1 11 rfl rfl)
theorem dX8_line_38 : decode cX8_line 38 = .ok (.aload_n 0, 1) := dk_42 (dk_at dksX8_line_1 14 rfl rfl)
theorem dX8_line_39 : decode cX8_line 39 = .ok (.aload_n 0, 1) := dk_42 (dk_at dksX8_line_1 15 rfl rfl)
theorem dX8_line_40 : decode cX8_line 40 = .ok (.iload_n 1, 1) := dk_27 (dk_at dksX8_line_1 16 rfl rfl)
theorem dX8_line_41 : decode cX8_line 41 = .ok (.invokevirtual 141, 3) := dk_182 0 141 (dk_at dksX8_line_1 17 rfl rfl)
theorem dX8_line_44 : decode cX8_line 44 = .ok (.iconst 5, 1) := dk_8 (dk_at dksX8_line_1 20 rfl rfl)
theorem dX8_line_45 : decode cX8_line 45 = .ok (.invokevirtual 85, 3) := dk_182 0 85 (dk_at dksX8_line_1 21 rfl rfl)
theorem dX8_line_48 : decode cX8_line 48 = .ok (.aload_n 0, 1) := dk_42 (dk_at dksX8_line_2 0 rfl rfl)
theorem dX8_line_49 : decode cX8_line 49 = .ok (.invokevirtual 29, 3) := dk_182 0 29 (dk_at dksX8_line_2 1 rfl rfl)
theorem dX8_line_52 : decode cX8_line 52 = .ok (.aload_n 0, 1) := dk_42 (dk_at dksX8_line_2 4 rfl rfl)
theorem dX8_line_53 : decode cX8_line 53 = .ok (.iload_n 1, 1) := dk_27 (dk_at dksX8_line_2 5 rfl rfl)
theorem dX8_line_54 : decode cX8_line 54 = .ok (.invokevirtual 144, 3) := dk_182 0 144 (dk_at dksX8_line_2 6 rfl rfl)
theorem dX8_line_57 : decode cX8_line 57 = .ok (.aload_n 0, 1) := dk_42 (dk_at dksX8_line_2 9 rfl rfl)
theorem dX8_line_58 : decode cX8_line 58 = .ok (.aload_n 0, 1) := dk_42 (dk_at dksX8_line_2 10 rfl rfl)
theorem dX8_line_59 : decode cX8_line 59 = .ok (.getfield 65, 3) := dk_180 0 65 (dk_at dksX8_line_2 11 rfl rfl)
theorem dX8_line_62 : decode cX8_line 62 = .ok (.iconst 3, 1) := dk_6 (dk_at dksX8_line_2 14 rfl rfl)
theorem dX8_line_63 : decode cX8_line 63 = .ok (.if_icmp .ne 7, 3) := dk_160 0 7 (dk_at dksX8_line_2 15 rfl rfl)
theorem dX8_line_66 : decode cX8_line 66 = .ok (.iconst 1, 1) := dk_4 (dk_at dksX8_line_2 18 rfl rfl)
theorem dX8_line_67 : decode cX8_line 67 = .ok (.goto 4, 3) := dk_167 0 4 (dk_at dksX8_line_2 19 rfl rfl)
theorem dX8_line_70 : decode cX8_line 70 = .ok (.iconst 0, 1) := dk_3 (dk_at dksX8_line_2 22 rfl rfl)
theorem dX8_line_71 : decode cX8_line 71 = .ok (.iconst 2, 1) := dk_5 (dk_at dksX8_line_2 23 rfl rfl)
theorem dX8_line_72 : decode cX8_line 72 = .ok (.invokevirtual 85, 3) := dk_182 0 85 (dk_at dksX8_line_3 0 rfl rfl)
theorem dX8_line_75 : decode cX8_line 75 = .ok (.aload_n 0, 1) := dk_42 (dk_at dksX8_line_3 3 rfl rfl)
theorem dX8_line_76 : decode cX8_line 76 = .ok (.invokevirtual 29, 3) := dk_182 0 29 (dk_at dksX8_line_3 4 rfl rfl)
theorem dX8_line_79 : decode cX8_line 79 = .ok (.return_, 1) := dk_177 (dk_at dksX8_line_3 7 rfl rfl)
abbrev cX8_is : ByteArray := prog_6_method_5_code
def yX8_is : MethodName := ⟨RX8, "is", "(I)Z"⟩
def dkwX8_is_3 : List UInt8 := [182, 0, 74, 160, 0, 7, 4, 167, 0, 4, 3, 62, 132, 4, 1, 167, 255, 210, 29, 172]
abbrev dktX8_is_3 : List UInt8 := dkwX8_is_3 ++ []
def dkwX8_is_2 : List UInt8 := [182, 0, 68, 162, 0, 39, 42, 180, 0, 3, 180, 0, 35, 42, 180, 0, 41, 21, 4, 96, 51, 44, 21, 4]
abbrev dktX8_is_2 : List UInt8 := dkwX8_is_2 ++ dktX8_is_3
def dkwX8_is_1 : List UInt8 := [182, 0, 68, 160, 0, 7, 4, 167, 0, 4, 3, 62, 3, 54, 4, 29, 153, 0, 48, 21, 4, 44]
abbrev dktX8_is_1 : List UInt8 := dkwX8_is_1 ++ dktX8_is_2
def dkwX8_is_0 : List UInt8 := [42, 27, 182, 0, 61, 77, 42, 180, 0, 65, 4, 160, 0, 23, 42, 180, 0, 32, 42, 180, 0, 41, 100, 44]
abbrev dktX8_is_0 : List UInt8 := dkwX8_is_0 ++ dktX8_is_1
theorem dksX8_is_0 : cX8_is.data.toList.drop 0 = dktX8_is_0 := by decide +kernel
theorem dksX8_is_1 : cX8_is.data.toList.drop 24 = dktX8_is_1 := dk_seg dksX8_is_0 24 rfl rfl
theorem dksX8_is_2 : cX8_is.data.toList.drop 46 = dktX8_is_2 := dk_seg dksX8_is_1 22 rfl rfl
theorem dksX8_is_3 : cX8_is.data.toList.drop 70 = dktX8_is_3 := dk_seg dksX8_is_2 24 rfl rfl
theorem dX8_is_0 : decode cX8_is 0 = .ok (.aload_n 0, 1) := dk_42 (dk_at dksX8_is_0 0 rfl rfl)
theorem dX8_is_1 : decode cX8_is 1 = .ok (.iload_n 1, 1) := dk_27 (dk_at dksX8_is_0 1 rfl rfl)
theorem dX8_is_2 : decode cX8_is 2 = .ok (.invokevirtual 61, 3) := dk_182 0 61 (dk_at dksX8_is_0 2 rfl rfl)
theorem dX8_is_5 : decode cX8_is 5 = .ok (.astore_n 2, 1) := dk_77 (dk_at dksX8_is_0 5 rfl rfl)
theorem dX8_is_6 : decode cX8_is 6 = .ok (.aload_n 0, 1) := dk_42 (dk_at dksX8_is_0 6 rfl rfl)
theorem dX8_is_7 : decode cX8_is 7 = .ok (.getfield 65, 3) := dk_180 0 65 (dk_at dksX8_is_0 7 rfl rfl)
theorem dX8_is_10 : decode cX8_is 10 = .ok (.iconst 1, 1) := dk_4 (dk_at dksX8_is_0 10 rfl rfl)
theorem dX8_is_11 : decode cX8_is 11 = .ok (.if_icmp .ne 23, 3) := dk_160 0 23 (dk_at dksX8_is_0 11 rfl rfl)
theorem dX8_is_14 : decode cX8_is 14 = .ok (.aload_n 0, 1) := dk_42 (dk_at dksX8_is_0 14 rfl rfl)
theorem dX8_is_15 : decode cX8_is 15 = .ok (.getfield 32, 3) := dk_180 0 32 (dk_at dksX8_is_0 15 rfl rfl)
theorem dX8_is_18 : decode cX8_is 18 = .ok (.aload_n 0, 1) := dk_42 (dk_at dksX8_is_0 18 rfl rfl)
theorem dX8_is_19 : decode cX8_is 19 = .ok (.getfield 41, 3) := dk_180 0 41 (dk_at dksX8_is_0 19 rfl rfl)
theorem dX8_is_22 : decode cX8_is 22 = .ok (.isub, 1) := dk_100 (dk_at dksX8_is_0 22 rfl rfl)
theorem dX8_is_23 : decode cX8_is 23 = .ok (.aload_n 2, 1) := dk_44 (dk_at dksX8_is_0 23 rfl rfl)
theorem dX8_is_24 : decode cX8_is 24 = .ok (.invokevirtual 68, 3) := dk_182 0 68 (dk_at dksX8_is_1 0 rfl rfl)
theorem dX8_is_27 : decode cX8_is 27 = .ok (.if_icmp .ne 7, 3) := dk_160 0 7 (dk_at dksX8_is_1 3 rfl rfl)
theorem dX8_is_30 : decode cX8_is 30 = .ok (.iconst 1, 1) := dk_4 (dk_at dksX8_is_1 6 rfl rfl)
theorem dX8_is_31 : decode cX8_is 31 = .ok (.goto 4, 3) := dk_167 0 4 (dk_at dksX8_is_1 7 rfl rfl)
theorem dX8_is_34 : decode cX8_is 34 = .ok (.iconst 0, 1) := dk_3 (dk_at dksX8_is_1 10 rfl rfl)
theorem dX8_is_35 : decode cX8_is 35 = .ok (.istore_n 3, 1) := dk_62 (dk_at dksX8_is_1 11 rfl rfl)
theorem dX8_is_36 : decode cX8_is 36 = .ok (.iconst 0, 1) := dk_3 (dk_at dksX8_is_1 12 rfl rfl)
theorem dX8_is_37 : decode cX8_is 37 = .ok (.istore 4, 2) := dk_54 4 (dk_at dksX8_is_1 13 rfl rfl)
theorem dX8_is_39 : decode cX8_is 39 = .ok (.iload_n 3, 1) := dk_29 (dk_at dksX8_is_1 15 rfl rfl)
theorem dX8_is_40 : decode cX8_is 40 = .ok (.ifCond .eq 48, 3) := dk_153 0 48 (dk_at dksX8_is_1 16 rfl rfl)
theorem dX8_is_43 : decode cX8_is 43 = .ok (.iload 4, 2) := dk_21 4 (dk_at dksX8_is_1 19 rfl rfl)
theorem dX8_is_45 : decode cX8_is 45 = .ok (.aload_n 2, 1) := dk_44 (dk_at dksX8_is_1 21 rfl rfl)
theorem dX8_is_46 : decode cX8_is 46 = .ok (.invokevirtual 68, 3) := dk_182 0 68 (dk_at dksX8_is_2 0 rfl rfl)
theorem dX8_is_49 : decode cX8_is 49 = .ok (.if_icmp .ge 39, 3) := dk_162 0 39 (dk_at dksX8_is_2 3 rfl rfl)
theorem dX8_is_52 : decode cX8_is 52 = .ok (.aload_n 0, 1) := dk_42 (dk_at dksX8_is_2 6 rfl rfl)
theorem dX8_is_53 : decode cX8_is 53 = .ok (.getfield 3, 3) := dk_180 0 3 (dk_at dksX8_is_2 7 rfl rfl)
theorem dX8_is_56 : decode cX8_is 56 = .ok (.getfield 35, 3) := dk_180 0 35 (dk_at dksX8_is_2 10 rfl rfl)
theorem dX8_is_59 : decode cX8_is 59 = .ok (.aload_n 0, 1) := dk_42 (dk_at dksX8_is_2 13 rfl rfl)
theorem dX8_is_60 : decode cX8_is 60 = .ok (.getfield 41, 3) := dk_180 0 41 (dk_at dksX8_is_2 14 rfl rfl)
theorem dX8_is_63 : decode cX8_is 63 = .ok (.iload 4, 2) := dk_21 4 (dk_at dksX8_is_2 17 rfl rfl)
theorem dX8_is_65 : decode cX8_is 65 = .ok (.iadd, 1) := dk_96 (dk_at dksX8_is_2 19 rfl rfl)
theorem dX8_is_66 : decode cX8_is 66 = .ok (.baload, 1) := dk_51 (dk_at dksX8_is_2 20 rfl rfl)
theorem dX8_is_67 : decode cX8_is 67 = .ok (.aload_n 2, 1) := dk_44 (dk_at dksX8_is_2 21 rfl rfl)
theorem dX8_is_68 : decode cX8_is 68 = .ok (.iload 4, 2) := dk_21 4 (dk_at dksX8_is_2 22 rfl rfl)
theorem dX8_is_70 : decode cX8_is 70 = .ok (.invokevirtual 74, 3) := dk_182 0 74 (dk_at dksX8_is_3 0 rfl rfl)
theorem dX8_is_73 : decode cX8_is 73 = .ok (.if_icmp .ne 7, 3) := dk_160 0 7 (dk_at dksX8_is_3 3 rfl rfl)
theorem dX8_is_76 : decode cX8_is 76 = .ok (.iconst 1, 1) := dk_4 (dk_at dksX8_is_3 6 rfl rfl)
theorem dX8_is_77 : decode cX8_is 77 = .ok (.goto 4, 3) := dk_167 0 4 (dk_at dksX8_is_3 7 rfl rfl)
theorem dX8_is_80 : decode cX8_is 80 = .ok (.iconst 0, 1) := dk_3 (dk_at dksX8_is_3 10 rfl rfl)
theorem dX8_is_81 : decode cX8_is 81 = .ok (.istore_n 3, 1) := dk_62 (dk_at dksX8_is_3 11 rfl rfl)
theorem dX8_is_82 : decode cX8_is 82 = .ok (.iinc 4 1, 3) := dk_132 4 1 (dk_at dksX8_is_3 12 rfl rfl)
theorem dX8_is_85 : decode cX8_is 85 = .ok (.goto (-46), 3) := dk_167 255 210 (dk_at dksX8_is_3 15 rfl rfl)
theorem dX8_is_88 : decode cX8_is 88 = .ok (.iload_n 3, 1) := dk_29 (dk_at dksX8_is_3 18 rfl rfl)
theorem dX8_is_89 : decode cX8_is 89 = .ok (.ireturn, 1) := dk_172 (dk_at dksX8_is_3 19 rfl rfl)
abbrev cX8_name : ByteArray := prog_6_method_4_code
def yX8_name : MethodName := ⟨RX8, "name", "(I)Ljava/lang/String;"⟩
def dkwX8_name_2 : List UInt8 := [18, 47, 176, 18, 49, 176, 18, 51, 176, 18, 53, 176, 18, 55, 176, 18, 57, 176, 18, 59, 176]
abbrev dktX8_name_2 : List UInt8 := dkwX8_name_2 ++ []
def dkwX8_name_1 : List UInt8 := [170, 0, 0, 0, 0, 0, 57, 0, 0, 0, 0, 0, 0, 0, 5, 0, 0, 0, 39, 0, 0, 0, 42, 0, 0, 0, 45, 0, 0, 0, 48, 0, 0, 0, 51, 0, 0, 0, 54]
abbrev dktX8_name_1 : List UInt8 := dkwX8_name_1 ++ dktX8_name_2
def dkwX8_name_0 : List UInt8 := [27]
abbrev dktX8_name_0 : List UInt8 := dkwX8_name_0 ++ dktX8_name_1
theorem dksX8_name_0 : cX8_name.data.toList.drop 0 = dktX8_name_0 := by decide +kernel
theorem dksX8_name_1 : cX8_name.data.toList.drop 1 = dktX8_name_1 := dk_seg dksX8_name_0 1 rfl rfl
theorem dksX8_name_2 : cX8_name.data.toList.drop 40 = dktX8_name_2 := dk_seg dksX8_name_1 39 rfl rfl
theorem dX8_name_0 : decode cX8_name 0 = .ok (.iload_n 1, 1) := dk_27 (dk_at dksX8_name_0 0 rfl rfl)
theorem dX8_name_1 : decode cX8_name 1 = .ok (.tableswitch 57 0 5 #[39, 42, 45, 48, 51, 54], 39) := by decide +kernel
theorem dX8_name_40 : decode cX8_name 40 = .ok (.ldc 47, 2) := dk_18 47 (dk_at dksX8_name_2 0 rfl rfl)
theorem dX8_name_42 : decode cX8_name 42 = .ok (.areturn, 1) := dk_176 (dk_at dksX8_name_2 2 rfl rfl)
theorem dX8_name_43 : decode cX8_name 43 = .ok (.ldc 49, 2) := dk_18 49 (dk_at dksX8_name_2 3 rfl rfl)
theorem dX8_name_45 : decode cX8_name 45 = .ok (.areturn, 1) := dk_176 (dk_at dksX8_name_2 5 rfl rfl)
theorem dX8_name_46 : decode cX8_name 46 = .ok (.ldc 51, 2) := dk_18 51 (dk_at dksX8_name_2 6 rfl rfl)
theorem dX8_name_48 : decode cX8_name 48 = .ok (.areturn, 1) := dk_176 (dk_at dksX8_name_2 8 rfl rfl)
theorem dX8_name_49 : decode cX8_name 49 = .ok (.ldc 53, 2) := dk_18 53 (dk_at dksX8_name_2 9 rfl rfl)
theorem dX8_name_51 : decode cX8_name 51 = .ok (.areturn, 1) := dk_176 (dk_at dksX8_name_2 11 rfl rfl)
theorem dX8_name_52 : decode cX8_name 52 = .ok (.ldc 55, 2) := dk_18 55 (dk_at dksX8_name_2 12 rfl rfl)
theorem dX8_name_54 : decode cX8_name 54 = .ok (.areturn, 1) := dk_176 (dk_at dksX8_name_2 14 rfl rfl)
theorem dX8_name_55 : decode cX8_name 55 = .ok (.ldc 57, 2) := dk_18 57 (dk_at dksX8_name_2 15 rfl rfl)
theorem dX8_name_57 : decode cX8_name 57 = .ok (.areturn, 1) := dk_176 (dk_at dksX8_name_2 17 rfl rfl)
theorem dX8_name_58 : decode cX8_name 58 = .ok (.ldc 59, 2) := dk_18 59 (dk_at dksX8_name_2 18 rfl rfl)
theorem dX8_name_60 : decode cX8_name 60 = .ok (.areturn, 1) := dk_176 (dk_at dksX8_name_2 20 rfl rfl)
abbrev cX8_hasRoom : ByteArray := prog_6_method_11_code
def yX8_hasRoom : MethodName := ⟨RX8, "hasRoom", "(I)Z"⟩
def dkwX8_hasRoom_3 : List UInt8 := [167, 0, 20, 42, 180, 0, 18, 180, 0, 111, 16, 6, 162, 0, 7, 4, 167, 0, 4, 3, 172]
abbrev dktX8_hasRoom_3 : List UInt8 := dkwX8_hasRoom_3 ++ []
def dkwX8_hasRoom_2 : List UInt8 := [167, 0, 44, 27, 8, 160, 0, 22, 42, 180, 0, 18, 180, 0, 135, 7, 162, 0, 7, 4, 167, 0, 24, 3]
abbrev dktX8_hasRoom_2 : List UInt8 := dkwX8_hasRoom_2 ++ dktX8_hasRoom_3
def dkwX8_hasRoom_1 : List UInt8 := [27, 7, 160, 0, 23, 42, 180, 0, 18, 180, 0, 132, 16, 7, 162, 0, 7, 4, 167, 0, 48, 3]
abbrev dktX8_hasRoom_1 : List UInt8 := dkwX8_hasRoom_1 ++ dktX8_hasRoom_2
def dkwX8_hasRoom_0 : List UInt8 := [27, 7, 162, 0, 22, 42, 180, 0, 18, 180, 0, 129, 7, 162, 0, 7, 4, 167, 0, 73, 3, 167, 0, 69]
abbrev dktX8_hasRoom_0 : List UInt8 := dkwX8_hasRoom_0 ++ dktX8_hasRoom_1
theorem dksX8_hasRoom_0 : cX8_hasRoom.data.toList.drop 0 = dktX8_hasRoom_0 := by decide +kernel
theorem dksX8_hasRoom_1 : cX8_hasRoom.data.toList.drop 24 = dktX8_hasRoom_1 := dk_seg dksX8_hasRoom_0 24 rfl rfl
theorem dksX8_hasRoom_2 : cX8_hasRoom.data.toList.drop 46 = dktX8_hasRoom_2 := dk_seg dksX8_hasRoom_1 22 rfl rfl
theorem dksX8_hasRoom_3 : cX8_hasRoom.data.toList.drop 70 = dktX8_hasRoom_3 := dk_seg dksX8_hasRoom_2 24 rfl rfl
theorem dX8_hasRoom_0 : decode cX8_hasRoom 0 = .ok (.iload_n 1, 1) := dk_27 (dk_at dksX8_hasRoom_0 0 rfl rfl)
theorem dX8_hasRoom_1 : decode cX8_hasRoom 1 = .ok (.iconst 4, 1) := dk_7 (dk_at dksX8_hasRoom_0 1 rfl rfl)
theorem dX8_hasRoom_2 : decode cX8_hasRoom 2 = .ok (.if_icmp .ge 22, 3) := dk_162 0 22 (dk_at dksX8_hasRoom_0 2 rfl rfl)
theorem dX8_hasRoom_5 : decode cX8_hasRoom 5 = .ok (.aload_n 0, 1) := dk_42 (dk_at dksX8_hasRoom_0 5 rfl rfl)
theorem dX8_hasRoom_6 : decode cX8_hasRoom 6 = .ok (.getfield 18, 3) := dk_180 0 18 (dk_at dksX8_hasRoom_0 6 rfl rfl)
theorem dX8_hasRoom_9 : decode cX8_hasRoom 9 = .ok (.getfield 129, 3) := dk_180 0 129 (dk_at dksX8_hasRoom_0 9 rfl rfl)
theorem dX8_hasRoom_12 : decode cX8_hasRoom 12 = .ok (.iconst 4, 1) := dk_7 (dk_at dksX8_hasRoom_0 12 rfl rfl)
theorem dX8_hasRoom_13 : decode cX8_hasRoom 13 = .ok (.if_icmp .ge 7, 3) := dk_162 0 7 (dk_at dksX8_hasRoom_0 13 rfl rfl)
theorem dX8_hasRoom_16 : decode cX8_hasRoom 16 = .ok (.iconst 1, 1) := dk_4 (dk_at dksX8_hasRoom_0 16 rfl rfl)
theorem dX8_hasRoom_17 : decode cX8_hasRoom 17 = .ok (.goto 73, 3) := dk_167 0 73 (dk_at dksX8_hasRoom_0 17 rfl rfl)
theorem dX8_hasRoom_20 : decode cX8_hasRoom 20 = .ok (.iconst 0, 1) := dk_3 (dk_at dksX8_hasRoom_0 20 rfl rfl)
theorem dX8_hasRoom_21 : decode cX8_hasRoom 21 = .ok (.goto 69, 3) := dk_167 0 69 (dk_at dksX8_hasRoom_0 21 rfl rfl)
theorem dX8_hasRoom_24 : decode cX8_hasRoom 24 = .ok (.iload_n 1, 1) := dk_27 (dk_at dksX8_hasRoom_1 0 rfl rfl)
theorem dX8_hasRoom_25 : decode cX8_hasRoom 25 = .ok (.iconst 4, 1) := dk_7 (dk_at dksX8_hasRoom_1 1 rfl rfl)
theorem dX8_hasRoom_26 : decode cX8_hasRoom 26 = .ok (.if_icmp .ne 23, 3) := dk_160 0 23 (dk_at dksX8_hasRoom_1 2 rfl rfl)
theorem dX8_hasRoom_29 : decode cX8_hasRoom 29 = .ok (.aload_n 0, 1) := dk_42 (dk_at dksX8_hasRoom_1 5 rfl rfl)
theorem dX8_hasRoom_30 : decode cX8_hasRoom 30 = .ok (.getfield 18, 3) := dk_180 0 18 (dk_at dksX8_hasRoom_1 6 rfl rfl)
theorem dX8_hasRoom_33 : decode cX8_hasRoom 33 = .ok (.getfield 132, 3) := dk_180 0 132 (dk_at dksX8_hasRoom_1 9 rfl rfl)
theorem dX8_hasRoom_36 : decode cX8_hasRoom 36 = .ok (.bipush 7, 2) := dk_16 7 (dk_at dksX8_hasRoom_1 12 rfl rfl)
theorem dX8_hasRoom_38 : decode cX8_hasRoom 38 = .ok (.if_icmp .ge 7, 3) := dk_162 0 7 (dk_at dksX8_hasRoom_1 14 rfl rfl)
theorem dX8_hasRoom_41 : decode cX8_hasRoom 41 = .ok (.iconst 1, 1) := dk_4 (dk_at dksX8_hasRoom_1 17 rfl rfl)
theorem dX8_hasRoom_42 : decode cX8_hasRoom 42 = .ok (.goto 48, 3) := dk_167 0 48 (dk_at dksX8_hasRoom_1 18 rfl rfl)
theorem dX8_hasRoom_45 : decode cX8_hasRoom 45 = .ok (.iconst 0, 1) := dk_3 (dk_at dksX8_hasRoom_1 21 rfl rfl)
theorem dX8_hasRoom_46 : decode cX8_hasRoom 46 = .ok (.goto 44, 3) := dk_167 0 44 (dk_at dksX8_hasRoom_2 0 rfl rfl)
theorem dX8_hasRoom_49 : decode cX8_hasRoom 49 = .ok (.iload_n 1, 1) := dk_27 (dk_at dksX8_hasRoom_2 3 rfl rfl)
theorem dX8_hasRoom_50 : decode cX8_hasRoom 50 = .ok (.iconst 5, 1) := dk_8 (dk_at dksX8_hasRoom_2 4 rfl rfl)
theorem dX8_hasRoom_51 : decode cX8_hasRoom 51 = .ok (.if_icmp .ne 22, 3) := dk_160 0 22 (dk_at dksX8_hasRoom_2 5 rfl rfl)
theorem dX8_hasRoom_54 : decode cX8_hasRoom 54 = .ok (.aload_n 0, 1) := dk_42 (dk_at dksX8_hasRoom_2 8 rfl rfl)
theorem dX8_hasRoom_55 : decode cX8_hasRoom 55 = .ok (.getfield 18, 3) := dk_180 0 18 (dk_at dksX8_hasRoom_2 9 rfl rfl)
theorem dX8_hasRoom_58 : decode cX8_hasRoom 58 = .ok (.getfield 135, 3) := dk_180 0 135 (dk_at dksX8_hasRoom_2 12 rfl rfl)
theorem dX8_hasRoom_61 : decode cX8_hasRoom 61 = .ok (.iconst 4, 1) := dk_7 (dk_at dksX8_hasRoom_2 15 rfl rfl)
theorem dX8_hasRoom_62 : decode cX8_hasRoom 62 = .ok (.if_icmp .ge 7, 3) := dk_162 0 7 (dk_at dksX8_hasRoom_2 16 rfl rfl)
theorem dX8_hasRoom_65 : decode cX8_hasRoom 65 = .ok (.iconst 1, 1) := dk_4 (dk_at dksX8_hasRoom_2 19 rfl rfl)
theorem dX8_hasRoom_66 : decode cX8_hasRoom 66 = .ok (.goto 24, 3) := dk_167 0 24 (dk_at dksX8_hasRoom_2 20 rfl rfl)
theorem dX8_hasRoom_69 : decode cX8_hasRoom 69 = .ok (.iconst 0, 1) := dk_3 (dk_at dksX8_hasRoom_2 23 rfl rfl)
theorem dX8_hasRoom_70 : decode cX8_hasRoom 70 = .ok (.goto 20, 3) := dk_167 0 20 (dk_at dksX8_hasRoom_3 0 rfl rfl)
theorem dX8_hasRoom_73 : decode cX8_hasRoom 73 = .ok (.aload_n 0, 1) := dk_42 (dk_at dksX8_hasRoom_3 3 rfl rfl)
theorem dX8_hasRoom_74 : decode cX8_hasRoom 74 = .ok (.getfield 18, 3) := dk_180 0 18 (dk_at dksX8_hasRoom_3 4 rfl rfl)
theorem dX8_hasRoom_77 : decode cX8_hasRoom 77 = .ok (.getfield 111, 3) := dk_180 0 111 (dk_at dksX8_hasRoom_3 7 rfl rfl)
theorem dX8_hasRoom_80 : decode cX8_hasRoom 80 = .ok (.bipush 6, 2) := dk_16 6 (dk_at dksX8_hasRoom_3 10 rfl rfl)
theorem dX8_hasRoom_82 : decode cX8_hasRoom 82 = .ok (.if_icmp .ge 7, 3) := dk_162 0 7 (dk_at dksX8_hasRoom_3 12 rfl rfl)
theorem dX8_hasRoom_85 : decode cX8_hasRoom 85 = .ok (.iconst 1, 1) := dk_4 (dk_at dksX8_hasRoom_3 15 rfl rfl)
theorem dX8_hasRoom_86 : decode cX8_hasRoom 86 = .ok (.goto 4, 3) := dk_167 0 4 (dk_at dksX8_hasRoom_3 16 rfl rfl)
theorem dX8_hasRoom_89 : decode cX8_hasRoom 89 = .ok (.iconst 0, 1) := dk_3 (dk_at dksX8_hasRoom_3 19 rfl rfl)
theorem dX8_hasRoom_90 : decode cX8_hasRoom 90 = .ok (.ireturn, 1) := dk_172 (dk_at dksX8_hasRoom_3 20 rfl rfl)
abbrev cX8_told : ByteArray := prog_6_method_10_code
def yX8_told : MethodName := ⟨RX8, "told", "(I)V"⟩
def dkwX8_told_6 : List UInt8 := [89, 180, 0, 129, 4, 96, 181, 0, 129, 177]
abbrev dktX8_told_6 : List UInt8 := dkwX8_told_6 ++ []
def dkwX8_told_5 : List UInt8 := [5, 42, 180, 0, 18, 180, 0, 129, 104, 4, 96, 42, 4, 16, 9, 182, 0, 100, 145, 84, 42, 180, 0, 18]
abbrev dktX8_told_5 : List UInt8 := dkwX8_told_5 ++ dktX8_told_6
def dkwX8_told_4 : List UInt8 := [180, 0, 126, 5, 42, 180, 0, 18, 180, 0, 129, 104, 3, 96, 27, 145, 84, 42, 180, 0, 18, 180, 0, 126]
abbrev dktX8_told_4 : List UInt8 := dkwX8_told_4 ++ dktX8_told_5
def dkwX8_told_3 : List UInt8 := [180, 0, 18, 42, 182, 0, 114, 182, 0, 120, 167, 0, 71, 42, 182, 0, 124, 167, 0, 64, 42, 180, 0, 18]
abbrev dktX8_told_3 : List UInt8 := dkwX8_told_3 ++ dktX8_told_4
def dkwX8_told_2 : List UInt8 := [42, 182, 0, 114, 61, 42, 180, 0, 18, 28, 42, 3, 6, 182, 0, 100, 182, 0, 117, 167, 0, 85, 42]
abbrev dktX8_told_2 : List UInt8 := dkwX8_told_2 ++ dktX8_told_3
def dkwX8_told_1 : List UInt8 := [170, 0, 0, 0, 0, 0, 70, 0, 0, 0, 4, 0, 0, 0, 6, 0, 0, 0, 27, 0, 0, 0, 49, 0, 0, 0, 63]
abbrev dktX8_told_1 : List UInt8 := dkwX8_told_1 ++ dktX8_told_2
def dkwX8_told_0 : List UInt8 := [27]
abbrev dktX8_told_0 : List UInt8 := dkwX8_told_0 ++ dktX8_told_1
theorem dksX8_told_0 : cX8_told.data.toList.drop 0 = dktX8_told_0 := by decide +kernel
theorem dksX8_told_1 : cX8_told.data.toList.drop 1 = dktX8_told_1 := dk_seg dksX8_told_0 1 rfl rfl
theorem dksX8_told_2 : cX8_told.data.toList.drop 28 = dktX8_told_2 := dk_seg dksX8_told_1 27 rfl rfl
theorem dksX8_told_3 : cX8_told.data.toList.drop 51 = dktX8_told_3 := dk_seg dksX8_told_2 23 rfl rfl
theorem dksX8_told_4 : cX8_told.data.toList.drop 75 = dktX8_told_4 := dk_seg dksX8_told_3 24 rfl rfl
theorem dksX8_told_5 : cX8_told.data.toList.drop 99 = dktX8_told_5 := dk_seg dksX8_told_4 24 rfl rfl
theorem dksX8_told_6 : cX8_told.data.toList.drop 123 = dktX8_told_6 := dk_seg dksX8_told_5 24 rfl rfl
theorem dX8_told_0 : decode cX8_told 0 = .ok (.iload_n 1, 1) := dk_27 (dk_at dksX8_told_0 0 rfl rfl)
theorem dX8_told_1 : decode cX8_told 1 = .ok (.tableswitch 70 4 6 #[27, 49, 63], 27) := by decide +kernel
theorem dX8_told_28 : decode cX8_told 28 = .ok (.aload_n 0, 1) := dk_42 (dk_at dksX8_told_2 0 rfl rfl)
theorem dX8_told_29 : decode cX8_told 29 = .ok (.invokevirtual 114, 3) := dk_182 0 114 (dk_at dksX8_told_2 1 rfl rfl)
theorem dX8_told_32 : decode cX8_told 32 = .ok (.istore_n 2, 1) := dk_61 (dk_at dksX8_told_2 4 rfl rfl)
theorem dX8_told_33 : decode cX8_told 33 = .ok (.aload_n 0, 1) := dk_42 (dk_at dksX8_told_2 5 rfl rfl)
theorem dX8_told_34 : decode cX8_told 34 = .ok (.getfield 18, 3) := dk_180 0 18 (dk_at dksX8_told_2 6 rfl rfl)
theorem dX8_told_37 : decode cX8_told 37 = .ok (.iload_n 2, 1) := dk_28 (dk_at dksX8_told_2 9 rfl rfl)
theorem dX8_told_38 : decode cX8_told 38 = .ok (.aload_n 0, 1) := dk_42 (dk_at dksX8_told_2 10 rfl rfl)
theorem dX8_told_39 : decode cX8_told 39 = .ok (.iconst 0, 1) := dk_3 (dk_at dksX8_told_2 11 rfl rfl)
theorem dX8_told_40 : decode cX8_told 40 = .ok (.iconst 3, 1) := dk_6 (dk_at dksX8_told_2 12 rfl rfl)
theorem dX8_told_41 : decode cX8_told 41 = .ok (.invokevirtual 100, 3) := dk_182 0 100 (dk_at dksX8_told_2 13 rfl rfl)
theorem dX8_told_44 : decode cX8_told 44 = .ok (.invokevirtual 117, 3) := dk_182 0 117 (dk_at dksX8_told_2 16 rfl rfl)
theorem dX8_told_47 : decode cX8_told 47 = .ok (.goto 85, 3) := dk_167 0 85 (dk_at dksX8_told_2 19 rfl rfl)
theorem dX8_told_50 : decode cX8_told 50 = .ok (.aload_n 0, 1) := dk_42 (dk_at dksX8_told_2 22 rfl rfl)
theorem dX8_told_51 : decode cX8_told 51 = .ok (.getfield 18, 3) := dk_180 0 18 (dk_at dksX8_told_3 0 rfl rfl)
theorem dX8_told_54 : decode cX8_told 54 = .ok (.aload_n 0, 1) := dk_42 (dk_at dksX8_told_3 3 rfl rfl)
theorem dX8_told_55 : decode cX8_told 55 = .ok (.invokevirtual 114, 3) := dk_182 0 114 (dk_at dksX8_told_3 4 rfl rfl)
theorem dX8_told_58 : decode cX8_told 58 = .ok (.invokevirtual 120, 3) := dk_182 0 120 (dk_at dksX8_told_3 7 rfl rfl)
theorem dX8_told_61 : decode cX8_told 61 = .ok (.goto 71, 3) := dk_167 0 71 (dk_at dksX8_told_3 10 rfl rfl)
theorem dX8_told_64 : decode cX8_told 64 = .ok (.aload_n 0, 1) := dk_42 (dk_at dksX8_told_3 13 rfl rfl)
theorem dX8_told_65 : decode cX8_told 65 = .ok (.invokevirtual 124, 3) := dk_182 0 124 (dk_at dksX8_told_3 14 rfl rfl)
theorem dX8_told_68 : decode cX8_told 68 = .ok (.goto 64, 3) := dk_167 0 64 (dk_at dksX8_told_3 17 rfl rfl)
theorem dX8_told_71 : decode cX8_told 71 = .ok (.aload_n 0, 1) := dk_42 (dk_at dksX8_told_3 20 rfl rfl)
theorem dX8_told_72 : decode cX8_told 72 = .ok (.getfield 18, 3) := dk_180 0 18 (dk_at dksX8_told_3 21 rfl rfl)
theorem dX8_told_75 : decode cX8_told 75 = .ok (.getfield 126, 3) := dk_180 0 126 (dk_at dksX8_told_4 0 rfl rfl)
theorem dX8_told_78 : decode cX8_told 78 = .ok (.iconst 2, 1) := dk_5 (dk_at dksX8_told_4 3 rfl rfl)
theorem dX8_told_79 : decode cX8_told 79 = .ok (.aload_n 0, 1) := dk_42 (dk_at dksX8_told_4 4 rfl rfl)
theorem dX8_told_80 : decode cX8_told 80 = .ok (.getfield 18, 3) := dk_180 0 18 (dk_at dksX8_told_4 5 rfl rfl)
theorem dX8_told_83 : decode cX8_told 83 = .ok (.getfield 129, 3) := dk_180 0 129 (dk_at dksX8_told_4 8 rfl rfl)
theorem dX8_told_86 : decode cX8_told 86 = .ok (.imul, 1) := dk_104 (dk_at dksX8_told_4 11 rfl rfl)
theorem dX8_told_87 : decode cX8_told 87 = .ok (.iconst 0, 1) := dk_3 (dk_at dksX8_told_4 12 rfl rfl)
theorem dX8_told_88 : decode cX8_told 88 = .ok (.iadd, 1) := dk_96 (dk_at dksX8_told_4 13 rfl rfl)
theorem dX8_told_89 : decode cX8_told 89 = .ok (.iload_n 1, 1) := dk_27 (dk_at dksX8_told_4 14 rfl rfl)
theorem dX8_told_90 : decode cX8_told 90 = .ok (.i2b, 1) := dk_145 (dk_at dksX8_told_4 15 rfl rfl)
theorem dX8_told_91 : decode cX8_told 91 = .ok (.bastore, 1) := dk_84 (dk_at dksX8_told_4 16 rfl rfl)
theorem dX8_told_92 : decode cX8_told 92 = .ok (.aload_n 0, 1) := dk_42 (dk_at dksX8_told_4 17 rfl rfl)
theorem dX8_told_93 : decode cX8_told 93 = .ok (.getfield 18, 3) := dk_180 0 18 (dk_at dksX8_told_4 18 rfl rfl)
theorem dX8_told_96 : decode cX8_told 96 = .ok (.getfield 126, 3) := dk_180 0 126 (dk_at dksX8_told_4 21 rfl rfl)
theorem dX8_told_99 : decode cX8_told 99 = .ok (.iconst 2, 1) := dk_5 (dk_at dksX8_told_5 0 rfl rfl)
theorem dX8_told_100 : decode cX8_told 100 = .ok (.aload_n 0, 1) := dk_42 (dk_at dksX8_told_5 1 rfl rfl)
theorem dX8_told_101 : decode cX8_told 101 = .ok (.getfield 18, 3) := dk_180 0 18 (dk_at dksX8_told_5 2 rfl rfl)
theorem dX8_told_104 : decode cX8_told 104 = .ok (.getfield 129, 3) := dk_180 0 129 (dk_at dksX8_told_5 5 rfl rfl)
theorem dX8_told_107 : decode cX8_told 107 = .ok (.imul, 1) := dk_104 (dk_at dksX8_told_5 8 rfl rfl)
theorem dX8_told_108 : decode cX8_told 108 = .ok (.iconst 1, 1) := dk_4 (dk_at dksX8_told_5 9 rfl rfl)
theorem dX8_told_109 : decode cX8_told 109 = .ok (.iadd, 1) := dk_96 (dk_at dksX8_told_5 10 rfl rfl)
theorem dX8_told_110 : decode cX8_told 110 = .ok (.aload_n 0, 1) := dk_42 (dk_at dksX8_told_5 11 rfl rfl)
theorem dX8_told_111 : decode cX8_told 111 = .ok (.iconst 1, 1) := dk_4 (dk_at dksX8_told_5 12 rfl rfl)
theorem dX8_told_112 : decode cX8_told 112 = .ok (.bipush 9, 2) := dk_16 9 (dk_at dksX8_told_5 13 rfl rfl)
theorem dX8_told_114 : decode cX8_told 114 = .ok (.invokevirtual 100, 3) := dk_182 0 100 (dk_at dksX8_told_5 15 rfl rfl)
theorem dX8_told_117 : decode cX8_told 117 = .ok (.i2b, 1) := dk_145 (dk_at dksX8_told_5 18 rfl rfl)
theorem dX8_told_118 : decode cX8_told 118 = .ok (.bastore, 1) := dk_84 (dk_at dksX8_told_5 19 rfl rfl)
theorem dX8_told_119 : decode cX8_told 119 = .ok (.aload_n 0, 1) := dk_42 (dk_at dksX8_told_5 20 rfl rfl)
theorem dX8_told_120 : decode cX8_told 120 = .ok (.getfield 18, 3) := dk_180 0 18 (dk_at dksX8_told_5 21 rfl rfl)
theorem dX8_told_123 : decode cX8_told 123 = .ok (.dup, 1) := dk_89 (dk_at dksX8_told_6 0 rfl rfl)
theorem dX8_told_124 : decode cX8_told 124 = .ok (.getfield 129, 3) := dk_180 0 129 (dk_at dksX8_told_6 1 rfl rfl)
theorem dX8_told_127 : decode cX8_told 127 = .ok (.iconst 1, 1) := dk_4 (dk_at dksX8_told_6 4 rfl rfl)
theorem dX8_told_128 : decode cX8_told 128 = .ok (.iadd, 1) := dk_96 (dk_at dksX8_told_6 5 rfl rfl)
theorem dX8_told_129 : decode cX8_told 129 = .ok (.putfield 129, 3) := dk_181 0 129 (dk_at dksX8_told_6 6 rfl rfl)
theorem dX8_told_132 : decode cX8_told 132 = .ok (.return_, 1) := dk_177 (dk_at dksX8_told_6 9 rfl rfl)
abbrev cX8_takenCell : ByteArray := prog_6_method_8_code
def yX8_takenCell : MethodName := ⟨RX8, "takenCell", "()I"⟩
def dkwX8_takenCell_2 : List UInt8 := [180, 0, 82, 60, 42, 182, 0, 29, 27, 172]
abbrev dktX8_takenCell_2 : List UInt8 := dkwX8_takenCell_2 ++ []
def dkwX8_takenCell_1 : List UInt8 := [184, 0, 93, 6, 182, 0, 85, 42, 42, 180, 0, 18, 42, 180, 0, 82, 182, 0, 97, 7, 182, 0, 85, 42]
abbrev dktX8_takenCell_1 : List UInt8 := dkwX8_takenCell_1 ++ dktX8_takenCell_2
def dkwX8_takenCell_0 : List UInt8 := [42, 42, 180, 0, 65, 5, 160, 0, 7, 4, 167, 0, 4, 3, 5, 182, 0, 85, 42, 42, 180, 0, 82]
abbrev dktX8_takenCell_0 : List UInt8 := dkwX8_takenCell_0 ++ dktX8_takenCell_1
theorem dksX8_takenCell_0 : cX8_takenCell.data.toList.drop 0 = dktX8_takenCell_0 := by decide +kernel
theorem dksX8_takenCell_1 : cX8_takenCell.data.toList.drop 23 = dktX8_takenCell_1 := dk_seg dksX8_takenCell_0 23 rfl rfl
theorem dksX8_takenCell_2 : cX8_takenCell.data.toList.drop 47 = dktX8_takenCell_2 := dk_seg dksX8_takenCell_1 24 rfl rfl
theorem dX8_takenCell_0 : decode cX8_takenCell 0 = .ok (.aload_n 0, 1) := dk_42 (dk_at dksX8_takenCell_0 0 rfl rfl)
theorem dX8_takenCell_1 : decode cX8_takenCell 1 = .ok (.aload_n 0, 1) := dk_42 (dk_at dksX8_takenCell_0 1 rfl rfl)
theorem dX8_takenCell_2 : decode cX8_takenCell 2 = .ok (.getfield 65, 3) := dk_180 0 65 (dk_at dksX8_takenCell_0 2 rfl rfl)
theorem dX8_takenCell_5 : decode cX8_takenCell 5 = .ok (.iconst 2, 1) := dk_5 (dk_at dksX8_takenCell_0 5 rfl rfl)
theorem dX8_takenCell_6 : decode cX8_takenCell 6 = .ok (.if_icmp .ne 7, 3) := dk_160 0 7 (dk_at dksX8_takenCell_0 6 rfl rfl)
theorem dX8_takenCell_9 : decode cX8_takenCell 9 = .ok (.iconst 1, 1) := dk_4 (dk_at dksX8_takenCell_0 9 rfl rfl)
theorem dX8_takenCell_10 : decode cX8_takenCell 10 = .ok (.goto 4, 3) := dk_167 0 4 (dk_at dksX8_takenCell_0 10 rfl rfl)
theorem dX8_takenCell_13 : decode cX8_takenCell 13 = .ok (.iconst 0, 1) := dk_3 (dk_at dksX8_takenCell_0 13 rfl rfl)
theorem dX8_takenCell_14 : decode cX8_takenCell 14 = .ok (.iconst 2, 1) := dk_5 (dk_at dksX8_takenCell_0 14 rfl rfl)
theorem dX8_takenCell_15 : decode cX8_takenCell 15 = .ok (.invokevirtual 85, 3) := dk_182 0 85 (dk_at dksX8_takenCell_0 15 rfl rfl)
theorem dX8_takenCell_18 : decode cX8_takenCell 18 = .ok (.aload_n 0, 1) := dk_42 (dk_at dksX8_takenCell_0 18 rfl rfl)
theorem dX8_takenCell_19 : decode cX8_takenCell 19 = .ok (.aload_n 0, 1) := dk_42 (dk_at dksX8_takenCell_0 19 rfl rfl)
theorem dX8_takenCell_20 : decode cX8_takenCell 20 = .ok (.getfield 82, 3) := dk_180 0 82 (dk_at dksX8_takenCell_0 20 rfl rfl)
theorem dX8_takenCell_23 : decode cX8_takenCell 23 = .ok (.invokestatic 93, 3) := dk_184 0 93 (dk_at dksX8_takenCell_1 0 rfl rfl)
theorem dX8_takenCell_26 : decode cX8_takenCell 26 = .ok (.iconst 3, 1) := dk_6 (dk_at dksX8_takenCell_1 3 rfl rfl)
theorem dX8_takenCell_27 : decode cX8_takenCell 27 = .ok (.invokevirtual 85, 3) := dk_182 0 85 (dk_at dksX8_takenCell_1 4 rfl rfl)
theorem dX8_takenCell_30 : decode cX8_takenCell 30 = .ok (.aload_n 0, 1) := dk_42 (dk_at dksX8_takenCell_1 7 rfl rfl)
theorem dX8_takenCell_31 : decode cX8_takenCell 31 = .ok (.aload_n 0, 1) := dk_42 (dk_at dksX8_takenCell_1 8 rfl rfl)
theorem dX8_takenCell_32 : decode cX8_takenCell 32 = .ok (.getfield 18, 3) := dk_180 0 18 (dk_at dksX8_takenCell_1 9 rfl rfl)
theorem dX8_takenCell_35 : decode cX8_takenCell 35 = .ok (.aload_n 0, 1) := dk_42 (dk_at dksX8_takenCell_1 12 rfl rfl)
theorem dX8_takenCell_36 : decode cX8_takenCell 36 = .ok (.getfield 82, 3) := dk_180 0 82 (dk_at dksX8_takenCell_1 13 rfl rfl)
theorem dX8_takenCell_39 : decode cX8_takenCell 39 = .ok (.invokevirtual 97, 3) := dk_182 0 97 (dk_at dksX8_takenCell_1 16 rfl rfl)
theorem dX8_takenCell_42 : decode cX8_takenCell 42 = .ok (.iconst 4, 1) := dk_7 (dk_at dksX8_takenCell_1 19 rfl rfl)
theorem dX8_takenCell_43 : decode cX8_takenCell 43 = .ok (.invokevirtual 85, 3) := dk_182 0 85 (dk_at dksX8_takenCell_1 20 rfl rfl)
theorem dX8_takenCell_46 : decode cX8_takenCell 46 = .ok (.aload_n 0, 1) := dk_42 (dk_at dksX8_takenCell_1 23 rfl rfl)
theorem dX8_takenCell_47 : decode cX8_takenCell 47 = .ok (.getfield 82, 3) := dk_180 0 82 (dk_at dksX8_takenCell_2 0 rfl rfl)
theorem dX8_takenCell_50 : decode cX8_takenCell 50 = .ok (.istore_n 1, 1) := dk_60 (dk_at dksX8_takenCell_2 3 rfl rfl)
theorem dX8_takenCell_51 : decode cX8_takenCell 51 = .ok (.aload_n 0, 1) := dk_42 (dk_at dksX8_takenCell_2 4 rfl rfl)
theorem dX8_takenCell_52 : decode cX8_takenCell 52 = .ok (.invokevirtual 29, 3) := dk_182 0 29 (dk_at dksX8_takenCell_2 5 rfl rfl)
theorem dX8_takenCell_55 : decode cX8_takenCell 55 = .ok (.iload_n 1, 1) := dk_27 (dk_at dksX8_takenCell_2 8 rfl rfl)
theorem dX8_takenCell_56 : decode cX8_takenCell 56 = .ok (.ireturn, 1) := dk_172 (dk_at dksX8_takenCell_2 9 rfl rfl)
abbrev cX8_taken : ByteArray := prog_6_method_7_code
def yX8_taken : MethodName := ⟨RX8, "taken", "(II)I"⟩
def dkwX8_taken_1 : List UInt8 := [27, 133, 28, 133, 184, 0, 89, 6, 182, 0, 85, 42, 180, 0, 82, 62, 42, 182, 0, 29, 29, 172]
abbrev dktX8_taken_1 : List UInt8 := dkwX8_taken_1 ++ []
def dkwX8_taken_0 : List UInt8 := [42, 42, 180, 0, 65, 5, 160, 0, 7, 4, 167, 0, 4, 3, 5, 182, 0, 85, 42, 42, 180, 0, 82, 133]
abbrev dktX8_taken_0 : List UInt8 := dkwX8_taken_0 ++ dktX8_taken_1
theorem dksX8_taken_0 : cX8_taken.data.toList.drop 0 = dktX8_taken_0 := by decide +kernel
theorem dksX8_taken_1 : cX8_taken.data.toList.drop 24 = dktX8_taken_1 := dk_seg dksX8_taken_0 24 rfl rfl
theorem dX8_taken_0 : decode cX8_taken 0 = .ok (.aload_n 0, 1) := dk_42 (dk_at dksX8_taken_0 0 rfl rfl)
theorem dX8_taken_1 : decode cX8_taken 1 = .ok (.aload_n 0, 1) := dk_42 (dk_at dksX8_taken_0 1 rfl rfl)
theorem dX8_taken_2 : decode cX8_taken 2 = .ok (.getfield 65, 3) := dk_180 0 65 (dk_at dksX8_taken_0 2 rfl rfl)
theorem dX8_taken_5 : decode cX8_taken 5 = .ok (.iconst 2, 1) := dk_5 (dk_at dksX8_taken_0 5 rfl rfl)
theorem dX8_taken_6 : decode cX8_taken 6 = .ok (.if_icmp .ne 7, 3) := dk_160 0 7 (dk_at dksX8_taken_0 6 rfl rfl)
theorem dX8_taken_9 : decode cX8_taken 9 = .ok (.iconst 1, 1) := dk_4 (dk_at dksX8_taken_0 9 rfl rfl)
theorem dX8_taken_10 : decode cX8_taken 10 = .ok (.goto 4, 3) := dk_167 0 4 (dk_at dksX8_taken_0 10 rfl rfl)
theorem dX8_taken_13 : decode cX8_taken 13 = .ok (.iconst 0, 1) := dk_3 (dk_at dksX8_taken_0 13 rfl rfl)
theorem dX8_taken_14 : decode cX8_taken 14 = .ok (.iconst 2, 1) := dk_5 (dk_at dksX8_taken_0 14 rfl rfl)
theorem dX8_taken_15 : decode cX8_taken 15 = .ok (.invokevirtual 85, 3) := dk_182 0 85 (dk_at dksX8_taken_0 15 rfl rfl)
theorem dX8_taken_18 : decode cX8_taken 18 = .ok (.aload_n 0, 1) := dk_42 (dk_at dksX8_taken_0 18 rfl rfl)
theorem dX8_taken_19 : decode cX8_taken 19 = .ok (.aload_n 0, 1) := dk_42 (dk_at dksX8_taken_0 19 rfl rfl)
theorem dX8_taken_20 : decode cX8_taken 20 = .ok (.getfield 82, 3) := dk_180 0 82 (dk_at dksX8_taken_0 20 rfl rfl)
theorem dX8_taken_23 : decode cX8_taken 23 = .ok (.i2l, 1) := dk_133 (dk_at dksX8_taken_0 23 rfl rfl)
theorem dX8_taken_24 : decode cX8_taken 24 = .ok (.iload_n 1, 1) := dk_27 (dk_at dksX8_taken_1 0 rfl rfl)
theorem dX8_taken_25 : decode cX8_taken 25 = .ok (.i2l, 1) := dk_133 (dk_at dksX8_taken_1 1 rfl rfl)
theorem dX8_taken_26 : decode cX8_taken 26 = .ok (.iload_n 2, 1) := dk_28 (dk_at dksX8_taken_1 2 rfl rfl)
theorem dX8_taken_27 : decode cX8_taken 27 = .ok (.i2l, 1) := dk_133 (dk_at dksX8_taken_1 3 rfl rfl)
theorem dX8_taken_28 : decode cX8_taken 28 = .ok (.invokestatic 89, 3) := dk_184 0 89 (dk_at dksX8_taken_1 4 rfl rfl)
theorem dX8_taken_31 : decode cX8_taken 31 = .ok (.iconst 3, 1) := dk_6 (dk_at dksX8_taken_1 7 rfl rfl)
theorem dX8_taken_32 : decode cX8_taken 32 = .ok (.invokevirtual 85, 3) := dk_182 0 85 (dk_at dksX8_taken_1 8 rfl rfl)
theorem dX8_taken_35 : decode cX8_taken 35 = .ok (.aload_n 0, 1) := dk_42 (dk_at dksX8_taken_1 11 rfl rfl)
theorem dX8_taken_36 : decode cX8_taken 36 = .ok (.getfield 82, 3) := dk_180 0 82 (dk_at dksX8_taken_1 12 rfl rfl)
theorem dX8_taken_39 : decode cX8_taken 39 = .ok (.istore_n 3, 1) := dk_62 (dk_at dksX8_taken_1 15 rfl rfl)
theorem dX8_taken_40 : decode cX8_taken 40 = .ok (.aload_n 0, 1) := dk_42 (dk_at dksX8_taken_1 16 rfl rfl)
theorem dX8_taken_41 : decode cX8_taken 41 = .ok (.invokevirtual 29, 3) := dk_182 0 29 (dk_at dksX8_taken_1 17 rfl rfl)
theorem dX8_taken_44 : decode cX8_taken 44 = .ok (.iload_n 3, 1) := dk_29 (dk_at dksX8_taken_1 20 rfl rfl)
theorem dX8_taken_45 : decode cX8_taken 45 = .ok (.ireturn, 1) := dk_172 (dk_at dksX8_taken_1 21 rfl rfl)
abbrev cX8_suit : ByteArray := prog_6_method_9_code
def yX8_suit : MethodName := ⟨RX8, "suit", "()V"⟩
def dkwX8_suit_3 : List UInt8 := [89, 180, 0, 111, 4, 96, 181, 0, 111, 177]
abbrev dktX8_suit_3 : List UInt8 := dkwX8_suit_3 ++ []
def dkwX8_suit_2 : List UInt8 := [180, 0, 18, 180, 0, 109, 5, 42, 180, 0, 18, 180, 0, 111, 104, 4, 96, 28, 145, 84, 42, 180, 0, 18]
abbrev dktX8_suit_2 : List UInt8 := dkwX8_suit_2 ++ dktX8_suit_3
def dkwX8_suit_1 : List UInt8 := [181, 0, 22, 42, 180, 0, 18, 180, 0, 109, 5, 42, 180, 0, 18, 180, 0, 111, 104, 27, 145, 84, 42]
abbrev dktX8_suit_1 : List UInt8 := dkwX8_suit_1 ++ dktX8_suit_2
def dkwX8_suit_0 : List UInt8 := [42, 3, 6, 182, 0, 100, 60, 42, 3, 16, 7, 182, 0, 100, 61, 42, 42, 180, 0, 22, 27, 184, 0, 104]
abbrev dktX8_suit_0 : List UInt8 := dkwX8_suit_0 ++ dktX8_suit_1
theorem dksX8_suit_0 : cX8_suit.data.toList.drop 0 = dktX8_suit_0 := by decide +kernel
theorem dksX8_suit_1 : cX8_suit.data.toList.drop 24 = dktX8_suit_1 := dk_seg dksX8_suit_0 24 rfl rfl
theorem dksX8_suit_2 : cX8_suit.data.toList.drop 47 = dktX8_suit_2 := dk_seg dksX8_suit_1 23 rfl rfl
theorem dksX8_suit_3 : cX8_suit.data.toList.drop 71 = dktX8_suit_3 := dk_seg dksX8_suit_2 24 rfl rfl
theorem dX8_suit_0 : decode cX8_suit 0 = .ok (.aload_n 0, 1) := dk_42 (dk_at dksX8_suit_0 0 rfl rfl)
theorem dX8_suit_1 : decode cX8_suit 1 = .ok (.iconst 0, 1) := dk_3 (dk_at dksX8_suit_0 1 rfl rfl)
theorem dX8_suit_2 : decode cX8_suit 2 = .ok (.iconst 3, 1) := dk_6 (dk_at dksX8_suit_0 2 rfl rfl)
theorem dX8_suit_3 : decode cX8_suit 3 = .ok (.invokevirtual 100, 3) := dk_182 0 100 (dk_at dksX8_suit_0 3 rfl rfl)
theorem dX8_suit_6 : decode cX8_suit 6 = .ok (.istore_n 1, 1) := dk_60 (dk_at dksX8_suit_0 6 rfl rfl)
theorem dX8_suit_7 : decode cX8_suit 7 = .ok (.aload_n 0, 1) := dk_42 (dk_at dksX8_suit_0 7 rfl rfl)
theorem dX8_suit_8 : decode cX8_suit 8 = .ok (.iconst 0, 1) := dk_3 (dk_at dksX8_suit_0 8 rfl rfl)
theorem dX8_suit_9 : decode cX8_suit 9 = .ok (.bipush 7, 2) := dk_16 7 (dk_at dksX8_suit_0 9 rfl rfl)
theorem dX8_suit_11 : decode cX8_suit 11 = .ok (.invokevirtual 100, 3) := dk_182 0 100 (dk_at dksX8_suit_0 11 rfl rfl)
theorem dX8_suit_14 : decode cX8_suit 14 = .ok (.istore_n 2, 1) := dk_61 (dk_at dksX8_suit_0 14 rfl rfl)
theorem dX8_suit_15 : decode cX8_suit 15 = .ok (.aload_n 0, 1) := dk_42 (dk_at dksX8_suit_0 15 rfl rfl)
theorem dX8_suit_16 : decode cX8_suit 16 = .ok (.aload_n 0, 1) := dk_42 (dk_at dksX8_suit_0 16 rfl rfl)
theorem dX8_suit_17 : decode cX8_suit 17 = .ok (.getfield 22, 3) := dk_180 0 22 (dk_at dksX8_suit_0 17 rfl rfl)
theorem dX8_suit_20 : decode cX8_suit 20 = .ok (.iload_n 1, 1) := dk_27 (dk_at dksX8_suit_0 20 rfl rfl)
theorem dX8_suit_21 : decode cX8_suit 21 = .ok (.invokestatic 104, 3) := dk_184 0 104 (dk_at dksX8_suit_0 21 rfl rfl)
theorem dX8_suit_24 : decode cX8_suit 24 = .ok (.putfield 22, 3) := dk_181 0 22 (dk_at dksX8_suit_1 0 rfl rfl)
theorem dX8_suit_27 : decode cX8_suit 27 = .ok (.aload_n 0, 1) := dk_42 (dk_at dksX8_suit_1 3 rfl rfl)
theorem dX8_suit_28 : decode cX8_suit 28 = .ok (.getfield 18, 3) := dk_180 0 18 (dk_at dksX8_suit_1 4 rfl rfl)
theorem dX8_suit_31 : decode cX8_suit 31 = .ok (.getfield 109, 3) := dk_180 0 109 (dk_at dksX8_suit_1 7 rfl rfl)
theorem dX8_suit_34 : decode cX8_suit 34 = .ok (.iconst 2, 1) := dk_5 (dk_at dksX8_suit_1 10 rfl rfl)
theorem dX8_suit_35 : decode cX8_suit 35 = .ok (.aload_n 0, 1) := dk_42 (dk_at dksX8_suit_1 11 rfl rfl)
theorem dX8_suit_36 : decode cX8_suit 36 = .ok (.getfield 18, 3) := dk_180 0 18 (dk_at dksX8_suit_1 12 rfl rfl)
theorem dX8_suit_39 : decode cX8_suit 39 = .ok (.getfield 111, 3) := dk_180 0 111 (dk_at dksX8_suit_1 15 rfl rfl)
theorem dX8_suit_42 : decode cX8_suit 42 = .ok (.imul, 1) := dk_104 (dk_at dksX8_suit_1 18 rfl rfl)
theorem dX8_suit_43 : decode cX8_suit 43 = .ok (.iload_n 1, 1) := dk_27 (dk_at dksX8_suit_1 19 rfl rfl)
theorem dX8_suit_44 : decode cX8_suit 44 = .ok (.i2b, 1) := dk_145 (dk_at dksX8_suit_1 20 rfl rfl)
theorem dX8_suit_45 : decode cX8_suit 45 = .ok (.bastore, 1) := dk_84 (dk_at dksX8_suit_1 21 rfl rfl)
theorem dX8_suit_46 : decode cX8_suit 46 = .ok (.aload_n 0, 1) := dk_42 (dk_at dksX8_suit_1 22 rfl rfl)
theorem dX8_suit_47 : decode cX8_suit 47 = .ok (.getfield 18, 3) := dk_180 0 18 (dk_at dksX8_suit_2 0 rfl rfl)
theorem dX8_suit_50 : decode cX8_suit 50 = .ok (.getfield 109, 3) := dk_180 0 109 (dk_at dksX8_suit_2 3 rfl rfl)
theorem dX8_suit_53 : decode cX8_suit 53 = .ok (.iconst 2, 1) := dk_5 (dk_at dksX8_suit_2 6 rfl rfl)
theorem dX8_suit_54 : decode cX8_suit 54 = .ok (.aload_n 0, 1) := dk_42 (dk_at dksX8_suit_2 7 rfl rfl)
theorem dX8_suit_55 : decode cX8_suit 55 = .ok (.getfield 18, 3) := dk_180 0 18 (dk_at dksX8_suit_2 8 rfl rfl)
theorem dX8_suit_58 : decode cX8_suit 58 = .ok (.getfield 111, 3) := dk_180 0 111 (dk_at dksX8_suit_2 11 rfl rfl)
theorem dX8_suit_61 : decode cX8_suit 61 = .ok (.imul, 1) := dk_104 (dk_at dksX8_suit_2 14 rfl rfl)
theorem dX8_suit_62 : decode cX8_suit 62 = .ok (.iconst 1, 1) := dk_4 (dk_at dksX8_suit_2 15 rfl rfl)
theorem dX8_suit_63 : decode cX8_suit 63 = .ok (.iadd, 1) := dk_96 (dk_at dksX8_suit_2 16 rfl rfl)
theorem dX8_suit_64 : decode cX8_suit 64 = .ok (.iload_n 2, 1) := dk_28 (dk_at dksX8_suit_2 17 rfl rfl)
theorem dX8_suit_65 : decode cX8_suit 65 = .ok (.i2b, 1) := dk_145 (dk_at dksX8_suit_2 18 rfl rfl)
theorem dX8_suit_66 : decode cX8_suit 66 = .ok (.bastore, 1) := dk_84 (dk_at dksX8_suit_2 19 rfl rfl)
theorem dX8_suit_67 : decode cX8_suit 67 = .ok (.aload_n 0, 1) := dk_42 (dk_at dksX8_suit_2 20 rfl rfl)
theorem dX8_suit_68 : decode cX8_suit 68 = .ok (.getfield 18, 3) := dk_180 0 18 (dk_at dksX8_suit_2 21 rfl rfl)
theorem dX8_suit_71 : decode cX8_suit 71 = .ok (.dup, 1) := dk_89 (dk_at dksX8_suit_3 0 rfl rfl)
theorem dX8_suit_72 : decode cX8_suit 72 = .ok (.getfield 111, 3) := dk_180 0 111 (dk_at dksX8_suit_3 1 rfl rfl)
theorem dX8_suit_75 : decode cX8_suit 75 = .ok (.iconst 1, 1) := dk_4 (dk_at dksX8_suit_3 4 rfl rfl)
theorem dX8_suit_76 : decode cX8_suit 76 = .ok (.iadd, 1) := dk_96 (dk_at dksX8_suit_3 5 rfl rfl)
theorem dX8_suit_77 : decode cX8_suit 77 = .ok (.putfield 111, 3) := dk_181 0 111 (dk_at dksX8_suit_3 6 rfl rfl)
theorem dX8_suit_80 : decode cX8_suit 80 = .ok (.return_, 1) := dk_177 (dk_at dksX8_suit_3 9 rfl rfl)
theorem q68 : (Jvm.Cond.initialized "HedgehogLots$Reader") ∈ lw_all := lw_g (lw_at lw_m1 9 rfl) rfl
theorem q129 : (Jvm.Cond.fieldLinkNest "HedgehogLots$Reader" (132 : Nat) "HedgehogLots$Slope" "pegs" "I" "HedgehogLots") ∈ lw_tbl := lw_at lw_m1 70 rfl
theorem q136 : (Jvm.Cond.fieldLinkNest "HedgehogLots$Reader" (135 : Nat) "HedgehogLots$Slope" "slugs" "I" "HedgehogLots") ∈ lw_tbl := lw_at lw_m1 77 rfl
theorem q141 : (Jvm.Cond.fieldLinkNest "HedgehogLots$Reader" (129 : Nat) "HedgehogLots$Slope" "hedgehogs" "I" "HedgehogLots") ∈ lw_tbl := lw_at lw_m1 82 rfl
theorem q145 : (Jvm.Cond.fieldLinkNest "HedgehogLots$Reader" (126 : Nat) "HedgehogLots$Slope" "hedgehog" "[B" "HedgehogLots") ∈ lw_tbl := lw_at lw_m1 86 rfl
theorem q148 : (Jvm.Cond.fieldLinkNest "HedgehogLots$Reader" (111 : Nat) "HedgehogLots$Slope" "suits" "I" "HedgehogLots") ∈ lw_tbl := lw_at lw_m1 89 rfl
theorem q151 : (Jvm.Cond.fieldLinkNest "HedgehogLots$Reader" (109 : Nat) "HedgehogLots$Slope" "suit" "[B" "HedgehogLots") ∈ lw_tbl := lw_at lw_m1 92 rfl
theorem q196 : (Jvm.Cond.fieldLinkNest "HedgehogLots$Reader" (35 : Nat) "HedgehogLots" "tape" "[B" "HedgehogLots") ∈ lw_tbl := lw_at lw_m1 137 rfl
theorem q273 : (Jvm.Cond.instantiable "HedgehogLots$Reader" (8 : Nat)) ∈ lw_all := lw_g (lw_at lw_m1 214 rfl) rfl
theorem q275 : (Jvm.Cond.instanceMethod ({ cls := "HedgehogLots$Reader", name := "<init>", desc := "(LHedgehogLots;I)V" } : Jvm.MethodName)) ∈ lw_all := lw_g (lw_at lw_m1 216 rfl) rfl
theorem q276 : (Jvm.Cond.code ({ cls := "HedgehogLots$Reader", name := "<init>", desc := "(LHedgehogLots;I)V" } : Jvm.MethodName) prog_6_method_1_code (3 : Nat) (Option.none : Option Jvm.ClassFile.FieldType)) ∈ lw_all := lw_g (lw_at lw_m1 217 rfl) rfl
theorem q277 : (Jvm.Cond.methodLink "HedgehogLots$Reader" (9 : Nat) ({ cls := "java/lang/Object", name := "<init>", desc := "()V" } : Jvm.MethodName)) ∈ lw_all := lw_g (lw_at lw_m1 218 rfl) rfl
theorem q278 : (Jvm.Cond.classLink "HedgehogLots$Reader" (15 : Nat) "HedgehogLots$Slope") ∈ lw_all := lw_g (lw_at lw_m1 219 rfl) rfl
theorem q279 : (Jvm.Cond.methodLinkNest "HedgehogLots$Reader" (17 : Nat) ({ cls := "HedgehogLots$Slope", name := "<init>", desc := "()V" } : Jvm.MethodName) "HedgehogLots") ∈ lw_tbl := lw_at lw_m1 220 rfl
theorem q280 : (Jvm.Cond.methodLink "HedgehogLots$Reader" (29 : Nat) ({ cls := "HedgehogLots$Reader", name := "next", desc := "()V" } : Jvm.MethodName)) ∈ lw_all := lw_g (lw_at lw_m1 221 rfl) rfl
theorem q281 : (Jvm.Cond.privateMethod ({ cls := "HedgehogLots$Reader", name := "next", desc := "()V" } : Jvm.MethodName)) ∈ lw_tbl := lw_at lw_m1 222 rfl
theorem q282 : (Jvm.Cond.instanceMethod ({ cls := "HedgehogLots$Reader", name := "next", desc := "()V" } : Jvm.MethodName)) ∈ lw_all := lw_g (lw_at lw_m1 223 rfl) rfl
theorem q283 : (Jvm.Cond.code ({ cls := "HedgehogLots$Reader", name := "next", desc := "()V" } : Jvm.MethodName) prog_6_method_6_code (1 : Nat) (Option.none : Option Jvm.ClassFile.FieldType)) ∈ lw_all := lw_g (lw_at lw_m1 224 rfl) rfl
theorem q284 : (Jvm.Cond.methodLink "HedgehogLots$Reader" (78 : Nat) ({ cls := "HedgehogLots$Reader", name := "isIn", desc := "(CC)Z" } : Jvm.MethodName)) ∈ lw_all := lw_g (lw_at lw_m1 225 rfl) rfl
theorem q285 : (Jvm.Cond.privateMethod ({ cls := "HedgehogLots$Reader", name := "isIn", desc := "(CC)Z" } : Jvm.MethodName)) ∈ lw_tbl := lw_at lw_m1 226 rfl
theorem q286 : (Jvm.Cond.instanceMethod ({ cls := "HedgehogLots$Reader", name := "isIn", desc := "(CC)Z" } : Jvm.MethodName)) ∈ lw_all := lw_g (lw_at lw_m1 227 rfl) rfl
theorem q287 : (Jvm.Cond.code ({ cls := "HedgehogLots$Reader", name := "isIn", desc := "(CC)Z" } : Jvm.MethodName) prog_6_method_2_code (3 : Nat) (Option.some Jvm.ClassFile.FieldType.boolean)) ∈ lw_all := lw_g (lw_at lw_m1 228 rfl) rfl
theorem q288 : (Jvm.Cond.methodLink "HedgehogLots$Reader" (85 : Nat) ({ cls := "HedgehogLots$Reader", name := "need", desc := "(ZI)V" } : Jvm.MethodName)) ∈ lw_all := lw_g (lw_at lw_m1 229 rfl) rfl
theorem q289 : (Jvm.Cond.privateMethod ({ cls := "HedgehogLots$Reader", name := "need", desc := "(ZI)V" } : Jvm.MethodName)) ∈ lw_tbl := lw_at lw_m1 230 rfl
theorem q290 : (Jvm.Cond.instanceMethod ({ cls := "HedgehogLots$Reader", name := "need", desc := "(ZI)V" } : Jvm.MethodName)) ∈ lw_all := lw_g (lw_at lw_m1 231 rfl) rfl
theorem q291 : (Jvm.Cond.code ({ cls := "HedgehogLots$Reader", name := "need", desc := "(ZI)V" } : Jvm.MethodName) prog_6_method_3_code (3 : Nat) (Option.none : Option Jvm.ClassFile.FieldType)) ∈ lw_all := lw_g (lw_at lw_m1 232 rfl) rfl
theorem q292 : (Jvm.Cond.classLink "HedgehogLots$Reader" (39 : Nat) "HedgehogLots$Fault") ∈ lw_all := lw_g (lw_at lw_m1 233 rfl) rfl
theorem q346 : (Jvm.Cond.methodLink "HedgehogLots$Reader" (44 : Nat) ({ cls := "HedgehogLots$Fault", name := "<init>", desc := "(II)V" } : Jvm.MethodName)) ∈ lw_all := lw_g (lw_at lw_m2 47 rfl) rfl
theorem q376 : (Jvm.Cond.fieldLink "HedgehogLots$Reader" (26 : Nat) "HedgehogLots$Reader" "size" "I") ∈ lw_all := lw_g (lw_at lw_m2 77 rfl) rfl
theorem q377 : (Jvm.Cond.fieldLink "HedgehogLots$Reader" (18 : Nat) "HedgehogLots$Reader" "made" "LHedgehogLots$Slope;") ∈ lw_all := lw_g (lw_at lw_m2 78 rfl) rfl
theorem q379 : (Jvm.Cond.fieldLink "HedgehogLots$Reader" (22 : Nat) "HedgehogLots$Reader" "highest" "I") ∈ lw_all := lw_g (lw_at lw_m2 80 rfl) rfl
theorem q380 : (Jvm.Cond.fieldLink "HedgehogLots$Reader" (32 : Nat) "HedgehogLots$Reader" "at" "I") ∈ lw_all := lw_g (lw_at lw_m2 81 rfl) rfl
theorem q381 : (Jvm.Cond.fieldLink "HedgehogLots$Reader" (41 : Nat) "HedgehogLots$Reader" "from" "I") ∈ lw_all := lw_g (lw_at lw_m2 82 rfl) rfl
theorem q382 : (Jvm.Cond.fieldLink "HedgehogLots$Reader" (65 : Nat) "HedgehogLots$Reader" "sort" "I") ∈ lw_all := lw_g (lw_at lw_m2 83 rfl) rfl
theorem q383 : (Jvm.Cond.fieldLink "HedgehogLots$Reader" (82 : Nat) "HedgehogLots$Reader" "value" "I") ∈ lw_all := lw_g (lw_at lw_m2 84 rfl) rfl
theorem q384 : (Jvm.Cond.fieldLink "HedgehogLots$Reader" (3 : Nat) "HedgehogLots$Reader" "this$0" "LHedgehogLots;") ∈ lw_all := lw_g (lw_at lw_m2 85 rfl) rfl
theorem q385 : (Jvm.Cond.laysFinal "HedgehogLots$Reader" "HedgehogLots$Reader" "size" "I") ∈ lw_all := lw_g (lw_at lw_m2 86 rfl) rfl
theorem q386 : (Jvm.Cond.soleField "HedgehogLots$Reader" "size") ∈ lw_all := lw_g (lw_at lw_m2 87 rfl) rfl
theorem q387 : (Jvm.Cond.laysFinal "HedgehogLots$Reader" "HedgehogLots$Reader" "made" "LHedgehogLots$Slope;") ∈ lw_all := lw_g (lw_at lw_m2 88 rfl) rfl
theorem q388 : (Jvm.Cond.soleField "HedgehogLots$Reader" "made") ∈ lw_all := lw_g (lw_at lw_m2 89 rfl) rfl
theorem q389 : (Jvm.Cond.lays "HedgehogLots$Reader" "HedgehogLots$Reader" "highest" "I") ∈ lw_all := lw_g (lw_at lw_m2 90 rfl) rfl
theorem q390 : (Jvm.Cond.soleField "HedgehogLots$Reader" "highest") ∈ lw_all := lw_g (lw_at lw_m2 91 rfl) rfl
theorem q391 : (Jvm.Cond.lays "HedgehogLots$Reader" "HedgehogLots$Reader" "at" "I") ∈ lw_all := lw_g (lw_at lw_m2 92 rfl) rfl
theorem q392 : (Jvm.Cond.soleField "HedgehogLots$Reader" "at") ∈ lw_all := lw_g (lw_at lw_m2 93 rfl) rfl
theorem q393 : (Jvm.Cond.lays "HedgehogLots$Reader" "HedgehogLots$Reader" "from" "I") ∈ lw_all := lw_g (lw_at lw_m2 94 rfl) rfl
theorem q394 : (Jvm.Cond.soleField "HedgehogLots$Reader" "from") ∈ lw_all := lw_g (lw_at lw_m2 95 rfl) rfl
theorem q395 : (Jvm.Cond.lays "HedgehogLots$Reader" "HedgehogLots$Reader" "sort" "I") ∈ lw_all := lw_g (lw_at lw_m2 96 rfl) rfl
theorem q396 : (Jvm.Cond.soleField "HedgehogLots$Reader" "sort") ∈ lw_all := lw_g (lw_at lw_m2 97 rfl) rfl
theorem q397 : (Jvm.Cond.lays "HedgehogLots$Reader" "HedgehogLots$Reader" "value" "I") ∈ lw_all := lw_g (lw_at lw_m2 98 rfl) rfl
theorem q398 : (Jvm.Cond.soleField "HedgehogLots$Reader" "value") ∈ lw_all := lw_g (lw_at lw_m2 99 rfl) rfl
theorem q399 : (Jvm.Cond.laysFinal "HedgehogLots$Reader" "HedgehogLots$Reader" "this$0" "LHedgehogLots;") ∈ lw_all := lw_g (lw_at lw_m2 100 rfl) rfl
theorem q400 : (Jvm.Cond.soleField "HedgehogLots$Reader" "this$0") ∈ lw_all := lw_g (lw_at lw_m2 101 rfl) rfl
theorem q401 : (Jvm.Cond.superclass "HedgehogLots$Reader" "java/lang/Object") ∈ lw_all := lw_g (lw_at lw_m2 102 rfl) rfl
theorem q403 : (Jvm.Cond.instanceMethod ({ cls := "HedgehogLots$Reader", name := "lines", desc := "()I" } : Jvm.MethodName)) ∈ lw_all := lw_g (lw_at lw_m2 104 rfl) rfl
theorem q404 : (Jvm.Cond.selects "HedgehogLots$Reader" ({ cls := "HedgehogLots$Reader", name := "lines", desc := "()I" } : Jvm.MethodName) ({ cls := "HedgehogLots$Reader", name := "lines", desc := "()I" } : Jvm.MethodName)) ∈ lw_all := lw_g (lw_at lw_m2 105 rfl) rfl
theorem q405 : (Jvm.Cond.code ({ cls := "HedgehogLots$Reader", name := "lines", desc := "()I" } : Jvm.MethodName) prog_6_method_13_code (2 : Nat) (Option.some Jvm.ClassFile.FieldType.int)) ∈ lw_all := lw_g (lw_at lw_m2 106 rfl) rfl
theorem q406 : (Jvm.Cond.methodLink "HedgehogLots$Reader" (147 : Nat) ({ cls := "HedgehogLots$Reader", name := "line", desc := "()V" } : Jvm.MethodName)) ∈ lw_all := lw_g (lw_at lw_m2 107 rfl) rfl
theorem q407 : (Jvm.Cond.privateMethod ({ cls := "HedgehogLots$Reader", name := "line", desc := "()V" } : Jvm.MethodName)) ∈ lw_tbl := lw_at lw_m2 108 rfl
theorem q408 : (Jvm.Cond.instanceMethod ({ cls := "HedgehogLots$Reader", name := "line", desc := "()V" } : Jvm.MethodName)) ∈ lw_all := lw_g (lw_at lw_m2 109 rfl) rfl
theorem q409 : (Jvm.Cond.code ({ cls := "HedgehogLots$Reader", name := "line", desc := "()V" } : Jvm.MethodName) prog_6_method_12_code (2 : Nat) (Option.none : Option Jvm.ClassFile.FieldType)) ∈ lw_all := lw_g (lw_at lw_m2 110 rfl) rfl
theorem q410 : (Jvm.Cond.methodLink "HedgehogLots$Reader" (138 : Nat) ({ cls := "HedgehogLots$Reader", name := "is", desc := "(I)Z" } : Jvm.MethodName)) ∈ lw_all := lw_g (lw_at lw_m2 111 rfl) rfl
theorem q411 : (Jvm.Cond.privateMethod ({ cls := "HedgehogLots$Reader", name := "is", desc := "(I)Z" } : Jvm.MethodName)) ∈ lw_tbl := lw_at lw_m2 112 rfl
theorem q412 : (Jvm.Cond.instanceMethod ({ cls := "HedgehogLots$Reader", name := "is", desc := "(I)Z" } : Jvm.MethodName)) ∈ lw_all := lw_g (lw_at lw_m2 113 rfl) rfl
theorem q413 : (Jvm.Cond.code ({ cls := "HedgehogLots$Reader", name := "is", desc := "(I)Z" } : Jvm.MethodName) prog_6_method_5_code (5 : Nat) (Option.some Jvm.ClassFile.FieldType.boolean)) ∈ lw_all := lw_g (lw_at lw_m2 114 rfl) rfl
theorem q414 : (Jvm.Cond.methodLink "HedgehogLots$Reader" (61 : Nat) ({ cls := "HedgehogLots$Reader", name := "name", desc := "(I)Ljava/lang/String;" } : Jvm.MethodName)) ∈ lw_all := lw_g (lw_at lw_m2 115 rfl) rfl
theorem q415 : (Jvm.Cond.privateMethod ({ cls := "HedgehogLots$Reader", name := "name", desc := "(I)Ljava/lang/String;" } : Jvm.MethodName)) ∈ lw_tbl := lw_at lw_m2 116 rfl
theorem q416 : (Jvm.Cond.instanceMethod ({ cls := "HedgehogLots$Reader", name := "name", desc := "(I)Ljava/lang/String;" } : Jvm.MethodName)) ∈ lw_all := lw_g (lw_at lw_m2 117 rfl) rfl
theorem q417 : (Jvm.Cond.code ({ cls := "HedgehogLots$Reader", name := "name", desc := "(I)Ljava/lang/String;" } : Jvm.MethodName) prog_6_method_4_code (2 : Nat) (Option.some (Jvm.ClassFile.FieldType.object "java/lang/String"))) ∈ lw_all := lw_g (lw_at lw_m2 118 rfl) rfl
theorem q418 : (Jvm.Cond.stringRef "HedgehogLots$Reader" (47 : Nat) "plain") ∈ lw_tbl := lw_at lw_m2 119 rfl
theorem q419 : (Jvm.Cond.stringRef "HedgehogLots$Reader" (49 : Nat) "fat") ∈ lw_tbl := lw_at lw_m2 120 rfl
theorem q420 : (Jvm.Cond.stringRef "HedgehogLots$Reader" (51 : Nat) "young") ∈ lw_tbl := lw_at lw_m2 121 rfl
theorem q421 : (Jvm.Cond.stringRef "HedgehogLots$Reader" (53 : Nat) "boar") ∈ lw_tbl := lw_at lw_m2 122 rfl
theorem q422 : (Jvm.Cond.stringRef "HedgehogLots$Reader" (55 : Nat) "peg") ∈ lw_tbl := lw_at lw_m2 123 rfl
theorem q423 : (Jvm.Cond.stringRef "HedgehogLots$Reader" (57 : Nat) "slug") ∈ lw_tbl := lw_at lw_m2 124 rfl
theorem q424 : (Jvm.Cond.stringRef "HedgehogLots$Reader" (59 : Nat) "suit") ∈ lw_tbl := lw_at lw_m2 125 rfl
theorem q425 : (Jvm.Cond.methodLink "HedgehogLots$Reader" (68 : Nat) ({ cls := "java/lang/String", name := "length", desc := "()I" } : Jvm.MethodName)) ∈ lw_all := lw_g (lw_at lw_m2 126 rfl) rfl
theorem q435 : (Jvm.Cond.methodLink "HedgehogLots$Reader" (74 : Nat) ({ cls := "java/lang/String", name := "charAt", desc := "(I)C" } : Jvm.MethodName)) ∈ lw_all := lw_g (lw_at lw_m2 136 rfl) rfl
theorem q473 : (Jvm.Cond.methodLink "HedgehogLots$Reader" (141 : Nat) ({ cls := "HedgehogLots$Reader", name := "hasRoom", desc := "(I)Z" } : Jvm.MethodName)) ∈ lw_all := lw_g (lw_at lw_m2 174 rfl) rfl
theorem q474 : (Jvm.Cond.privateMethod ({ cls := "HedgehogLots$Reader", name := "hasRoom", desc := "(I)Z" } : Jvm.MethodName)) ∈ lw_tbl := lw_at lw_m2 175 rfl
theorem q475 : (Jvm.Cond.instanceMethod ({ cls := "HedgehogLots$Reader", name := "hasRoom", desc := "(I)Z" } : Jvm.MethodName)) ∈ lw_all := lw_g (lw_at lw_m2 176 rfl) rfl
theorem q476 : (Jvm.Cond.code ({ cls := "HedgehogLots$Reader", name := "hasRoom", desc := "(I)Z" } : Jvm.MethodName) prog_6_method_11_code (2 : Nat) (Option.some Jvm.ClassFile.FieldType.boolean)) ∈ lw_all := lw_g (lw_at lw_m2 177 rfl) rfl
theorem q477 : (Jvm.Cond.methodLink "HedgehogLots$Reader" (144 : Nat) ({ cls := "HedgehogLots$Reader", name := "told", desc := "(I)V" } : Jvm.MethodName)) ∈ lw_all := lw_g (lw_at lw_m2 178 rfl) rfl
theorem q478 : (Jvm.Cond.privateMethod ({ cls := "HedgehogLots$Reader", name := "told", desc := "(I)V" } : Jvm.MethodName)) ∈ lw_tbl := lw_at lw_m2 179 rfl
theorem q479 : (Jvm.Cond.instanceMethod ({ cls := "HedgehogLots$Reader", name := "told", desc := "(I)V" } : Jvm.MethodName)) ∈ lw_all := lw_g (lw_at lw_m2 180 rfl) rfl
theorem q480 : (Jvm.Cond.code ({ cls := "HedgehogLots$Reader", name := "told", desc := "(I)V" } : Jvm.MethodName) prog_6_method_10_code (3 : Nat) (Option.none : Option Jvm.ClassFile.FieldType)) ∈ lw_all := lw_g (lw_at lw_m2 181 rfl) rfl
theorem q481 : (Jvm.Cond.methodLink "HedgehogLots$Reader" (114 : Nat) ({ cls := "HedgehogLots$Reader", name := "takenCell", desc := "()I" } : Jvm.MethodName)) ∈ lw_all := lw_g (lw_at lw_m2 182 rfl) rfl
theorem q482 : (Jvm.Cond.privateMethod ({ cls := "HedgehogLots$Reader", name := "takenCell", desc := "()I" } : Jvm.MethodName)) ∈ lw_tbl := lw_at lw_m2 183 rfl
theorem q483 : (Jvm.Cond.instanceMethod ({ cls := "HedgehogLots$Reader", name := "takenCell", desc := "()I" } : Jvm.MethodName)) ∈ lw_all := lw_g (lw_at lw_m2 184 rfl) rfl
theorem q484 : (Jvm.Cond.code ({ cls := "HedgehogLots$Reader", name := "takenCell", desc := "()I" } : Jvm.MethodName) prog_6_method_8_code (2 : Nat) (Option.some Jvm.ClassFile.FieldType.int)) ∈ lw_all := lw_g (lw_at lw_m2 185 rfl) rfl
theorem q485 : (Jvm.Cond.methodLinkNest "HedgehogLots$Reader" (93 : Nat) ({ cls := "HedgehogLots", name := "isCell", desc := "(I)Z" } : Jvm.MethodName) "HedgehogLots") ∈ lw_tbl := lw_at lw_m2 186 rfl
theorem q489 : (Jvm.Cond.methodLink "HedgehogLots$Reader" (97 : Nat) ({ cls := "HedgehogLots$Slope", name := "isFree", desc := "(I)Z" } : Jvm.MethodName)) ∈ lw_all := lw_g (lw_at lw_m2 190 rfl) rfl
theorem q501 : (Jvm.Cond.methodLink "HedgehogLots$Reader" (100 : Nat) ({ cls := "HedgehogLots$Reader", name := "taken", desc := "(II)I" } : Jvm.MethodName)) ∈ lw_all := lw_g (lw_at lw_m2 202 rfl) rfl
theorem q502 : (Jvm.Cond.privateMethod ({ cls := "HedgehogLots$Reader", name := "taken", desc := "(II)I" } : Jvm.MethodName)) ∈ lw_tbl := lw_at lw_m2 203 rfl
theorem q503 : (Jvm.Cond.instanceMethod ({ cls := "HedgehogLots$Reader", name := "taken", desc := "(II)I" } : Jvm.MethodName)) ∈ lw_all := lw_g (lw_at lw_m2 204 rfl) rfl
theorem q504 : (Jvm.Cond.code ({ cls := "HedgehogLots$Reader", name := "taken", desc := "(II)I" } : Jvm.MethodName) prog_6_method_7_code (4 : Nat) (Option.some Jvm.ClassFile.FieldType.int)) ∈ lw_all := lw_g (lw_at lw_m2 205 rfl) rfl
theorem q505 : (Jvm.Cond.methodLinkNest "HedgehogLots$Reader" (89 : Nat) ({ cls := "HedgehogLots", name := "in", desc := "(JJJ)Z" } : Jvm.MethodName) "HedgehogLots") ∈ lw_tbl := lw_at lw_m2 206 rfl
theorem q506 : (Jvm.Cond.methodLink "HedgehogLots$Reader" (117 : Nat) ({ cls := "HedgehogLots$Slope", name := "drives", desc := "(II)V" } : Jvm.MethodName)) ∈ lw_all := lw_g (lw_at lw_m2 207 rfl) rfl
theorem q510 : (Jvm.Cond.methodLink "HedgehogLots$Reader" (120 : Nat) ({ cls := "HedgehogLots$Slope", name := "lays", desc := "(I)V" } : Jvm.MethodName)) ∈ lw_all := lw_g (lw_at lw_m2 211 rfl) rfl
theorem q514 : (Jvm.Cond.methodLink "HedgehogLots$Reader" (124 : Nat) ({ cls := "HedgehogLots$Reader", name := "suit", desc := "()V" } : Jvm.MethodName)) ∈ lw_all := lw_g (lw_at lw_m2 215 rfl) rfl
theorem q515 : (Jvm.Cond.privateMethod ({ cls := "HedgehogLots$Reader", name := "suit", desc := "()V" } : Jvm.MethodName)) ∈ lw_tbl := lw_at lw_m2 216 rfl
theorem q516 : (Jvm.Cond.instanceMethod ({ cls := "HedgehogLots$Reader", name := "suit", desc := "()V" } : Jvm.MethodName)) ∈ lw_all := lw_g (lw_at lw_m2 217 rfl) rfl
theorem q517 : (Jvm.Cond.code ({ cls := "HedgehogLots$Reader", name := "suit", desc := "()V" } : Jvm.MethodName) prog_6_method_9_code (3 : Nat) (Option.none : Option Jvm.ClassFile.FieldType)) ∈ lw_all := lw_g (lw_at lw_m2 218 rfl) rfl
theorem q518 : (Jvm.Cond.methodLink "HedgehogLots$Reader" (104 : Nat) ({ cls := "java/lang/Math", name := "max", desc := "(II)I" } : Jvm.MethodName)) ∈ lw_all := lw_g (lw_at lw_m2 219 rfl) rfl
theorem in_X8 : ∀ w ∈ wsX80, w ∈ lw_all := lw_in wsX80 [385, 387, 389, 391, 393, 395, 397, 399] (by decide +kernel) (by decide +kernel)
/-! HedgehogLots$Fault -/
set_option maxRecDepth 100000
def RX9 : String := "HedgehogLots$Fault"
def TX9 : u_T := fun k => match k with
  | 0 => ("java/lang/Throwable", "cause", "Ljava/lang/Throwable;", false)
  | 1 => ("java/lang/Throwable", "stackTrace", "[Ljava/lang/StackTraceElement;", false)
  | 2 => ("java/lang/Throwable", "suppressedExceptions", "Ljava/util/List;", false)
  | 3 => ("java/lang/Throwable", "detailMessage", "Ljava/lang/String;", false)
  | 4 => ("java/lang/Throwable", "backtrace", "Ljava/lang/Object;", false)
  | 5 => ("java/lang/Throwable", "depth", "I", false)
  | 6 => ("HedgehogLots$Fault", "code", "I", true)
  | _ => ("HedgehogLots$Fault", "place", "I", true)
def tyX9 : Nat → FieldType := fun k => match k with
  | 0 => .object "java/lang/Throwable"
  | 1 => .array (.object "java/lang/StackTraceElement")
  | 2 => .object "java/util/List"
  | 3 => .object "java/lang/String"
  | 4 => .object "java/lang/Object"
  | 5 => .int
  | 6 => .int
  | _ => .int
abbrev wsX90 : List Cond := u_ws RX9 TX9 8
theorem nmX9 : ∀ a, a < 8 → ∀ b, b < 8 → a ≠ b → (TX9 a).2.1 ≠ (TX9 b).2.1 := by decide +kernel
theorem tyX9_ok : ∀ k, k < 8 → parseFieldDescriptor (TX9 k).2.2.1 = some (tyX9 k) := by decide +kernel
abbrev cX9_init : ByteArray := prog_4_method_1_code
def yX9_init : MethodName := ⟨RX9, "<init>", "(II)V"⟩
def dkwX9_init_0 : List UInt8 := [42, 1, 1, 3, 3, 183, 0, 1, 42, 27, 181, 0, 7, 42, 28, 181, 0, 13, 177]
abbrev dktX9_init_0 : List UInt8 := dkwX9_init_0 ++ []
theorem dksX9_init_0 : cX9_init.data.toList.drop 0 = dktX9_init_0 := by decide +kernel
theorem dX9_init_0 : decode cX9_init 0 = .ok (.aload_n 0, 1) := dk_42 (dk_at dksX9_init_0 0 rfl rfl)
theorem dX9_init_1 : decode cX9_init 1 = .ok (.aconst_null, 1) := dk_1 (dk_at dksX9_init_0 1 rfl rfl)
theorem dX9_init_2 : decode cX9_init 2 = .ok (.aconst_null, 1) := dk_1 (dk_at dksX9_init_0 2 rfl rfl)
theorem dX9_init_3 : decode cX9_init 3 = .ok (.iconst 0, 1) := dk_3 (dk_at dksX9_init_0 3 rfl rfl)
theorem dX9_init_4 : decode cX9_init 4 = .ok (.iconst 0, 1) := dk_3 (dk_at dksX9_init_0 4 rfl rfl)
theorem dX9_init_5 : decode cX9_init 5 = .ok (.invokespecial 1, 3) := dk_183 0 1 (dk_at dksX9_init_0 5 rfl rfl)
theorem dX9_init_8 : decode cX9_init 8 = .ok (.aload_n 0, 1) := dk_42 (dk_at dksX9_init_0 8 rfl rfl)
theorem dX9_init_9 : decode cX9_init 9 = .ok (.iload_n 1, 1) := dk_27 (dk_at dksX9_init_0 9 rfl rfl)
theorem dX9_init_10 : decode cX9_init 10 = .ok (.putfield 7, 3) := dk_181 0 7 (dk_at dksX9_init_0 10 rfl rfl)
theorem dX9_init_13 : decode cX9_init 13 = .ok (.aload_n 0, 1) := dk_42 (dk_at dksX9_init_0 13 rfl rfl)
theorem dX9_init_14 : decode cX9_init 14 = .ok (.iload_n 2, 1) := dk_28 (dk_at dksX9_init_0 14 rfl rfl)
theorem dX9_init_15 : decode cX9_init 15 = .ok (.putfield 13, 3) := dk_181 0 13 (dk_at dksX9_init_0 15 rfl rfl)
theorem dX9_init_18 : decode cX9_init 18 = .ok (.return_, 1) := dk_177 (dk_at dksX9_init_0 18 rfl rfl)
theorem q71 : (Jvm.Cond.initialized "HedgehogLots$Fault") ∈ lw_all := lw_g (lw_at lw_m1 12 rfl) rfl
theorem q293 : (Jvm.Cond.instantiable "HedgehogLots$Fault" (8 : Nat)) ∈ lw_all := lw_g (lw_at lw_m1 234 rfl) rfl
theorem q294 : (Jvm.Cond.castable "HedgehogLots$Fault" "HedgehogLots$Fault") ∈ lw_tbl := lw_at lw_m1 235 rfl
theorem q299 : (Jvm.Cond.selects "HedgehogLots$Fault" ({ cls := "java/lang/Throwable", name := "fillInStackTrace", desc := "(I)Ljava/lang/Throwable;" } : Jvm.MethodName) ({ cls := "java/lang/Throwable", name := "fillInStackTrace", desc := "(I)Ljava/lang/Throwable;" } : Jvm.MethodName)) ∈ lw_all := lw_g (lw_at lw_m2 0 rfl) rfl
theorem q300 : (Jvm.Cond.selects "HedgehogLots$Fault" ({ cls := "java/lang/Throwable", name := "fillInStackTrace", desc := "()Ljava/lang/Throwable;" } : Jvm.MethodName) ({ cls := "java/lang/Throwable", name := "fillInStackTrace", desc := "()Ljava/lang/Throwable;" } : Jvm.MethodName)) ∈ lw_all := lw_g (lw_at lw_m2 1 rfl) rfl
theorem q301 : (Jvm.Cond.lays "HedgehogLots$Fault" "java/lang/Throwable" "cause" "Ljava/lang/Throwable;") ∈ lw_all := lw_g (lw_at lw_m2 2 rfl) rfl
theorem q303 : (Jvm.Cond.lays "HedgehogLots$Fault" "java/lang/Throwable" "stackTrace" "[Ljava/lang/StackTraceElement;") ∈ lw_all := lw_g (lw_at lw_m2 4 rfl) rfl
theorem q305 : (Jvm.Cond.lays "HedgehogLots$Fault" "java/lang/Throwable" "suppressedExceptions" "Ljava/util/List;") ∈ lw_all := lw_g (lw_at lw_m2 6 rfl) rfl
theorem q307 : (Jvm.Cond.lays "HedgehogLots$Fault" "java/lang/Throwable" "detailMessage" "Ljava/lang/String;") ∈ lw_all := lw_g (lw_at lw_m2 8 rfl) rfl
theorem q309 : (Jvm.Cond.lays "HedgehogLots$Fault" "java/lang/Throwable" "backtrace" "Ljava/lang/Object;") ∈ lw_all := lw_g (lw_at lw_m2 10 rfl) rfl
theorem q347 : (Jvm.Cond.instanceMethod ({ cls := "HedgehogLots$Fault", name := "<init>", desc := "(II)V" } : Jvm.MethodName)) ∈ lw_all := lw_g (lw_at lw_m2 48 rfl) rfl
theorem q348 : (Jvm.Cond.code ({ cls := "HedgehogLots$Fault", name := "<init>", desc := "(II)V" } : Jvm.MethodName) prog_4_method_1_code (3 : Nat) (Option.none : Option Jvm.ClassFile.FieldType)) ∈ lw_all := lw_g (lw_at lw_m2 49 rfl) rfl
theorem q349 : (Jvm.Cond.methodLink "HedgehogLots$Fault" (1 : Nat) ({ cls := "java/lang/Exception", name := "<init>", desc := "(Ljava/lang/String;Ljava/lang/Throwable;ZZ)V" } : Jvm.MethodName)) ∈ lw_all := lw_g (lw_at lw_m2 50 rfl) rfl
theorem q355 : (Jvm.Cond.fieldLink "HedgehogLots$Fault" (7 : Nat) "HedgehogLots$Fault" "code" "I") ∈ lw_all := lw_g (lw_at lw_m2 56 rfl) rfl
theorem q357 : (Jvm.Cond.fieldLink "HedgehogLots$Fault" (13 : Nat) "HedgehogLots$Fault" "place" "I") ∈ lw_all := lw_g (lw_at lw_m2 58 rfl) rfl
theorem q364 : (Jvm.Cond.laysFinal "HedgehogLots$Fault" "HedgehogLots$Fault" "code" "I") ∈ lw_all := lw_g (lw_at lw_m2 65 rfl) rfl
theorem q365 : (Jvm.Cond.soleField "HedgehogLots$Fault" "code") ∈ lw_all := lw_g (lw_at lw_m2 66 rfl) rfl
theorem q366 : (Jvm.Cond.laysFinal "HedgehogLots$Fault" "HedgehogLots$Fault" "place" "I") ∈ lw_all := lw_g (lw_at lw_m2 67 rfl) rfl
theorem q367 : (Jvm.Cond.soleField "HedgehogLots$Fault" "place") ∈ lw_all := lw_g (lw_at lw_m2 68 rfl) rfl
theorem q372 : (Jvm.Cond.lays "HedgehogLots$Fault" "java/lang/Throwable" "depth" "I") ∈ lw_all := lw_g (lw_at lw_m2 73 rfl) rfl
theorem q375 : (Jvm.Cond.superclass "HedgehogLots$Fault" "java/lang/Exception") ∈ lw_all := lw_g (lw_at lw_m2 76 rfl) rfl
theorem in_X9 : ∀ w ∈ wsX90, w ∈ lw_all := lw_in wsX90 [301, 303, 305, 307, 309, 372, 364, 366] (by decide +kernel) (by decide +kernel)
/-! java/lang/Throwable -/
set_option maxRecDepth 100000
def RJ0 : String := "java/lang/Throwable"
def TJ0 : u_T := fun k => match k with
  | 0 => ("java/lang/Throwable", "cause", "Ljava/lang/Throwable;", false)
  | 1 => ("java/lang/Throwable", "stackTrace", "[Ljava/lang/StackTraceElement;", false)
  | 2 => ("java/lang/Throwable", "suppressedExceptions", "Ljava/util/List;", false)
  | 3 => ("java/lang/Throwable", "detailMessage", "Ljava/lang/String;", false)
  | _ => ("java/lang/Throwable", "backtrace", "Ljava/lang/Object;", false)
def tyJ0 : Nat → FieldType := fun k => match k with
  | 0 => .object "java/lang/Throwable"
  | 1 => .array (.object "java/lang/StackTraceElement")
  | 2 => .object "java/util/List"
  | 3 => .object "java/lang/String"
  | _ => .object "java/lang/Object"
abbrev wsJ00 : List Cond := u_ws RJ0 TJ0 5
theorem nmJ0 : ∀ a, a < 5 → ∀ b, b < 5 → a ≠ b → (TJ0 a).2.1 ≠ (TJ0 b).2.1 := by decide +kernel
theorem tyJ0_ok : ∀ k, k < 5 → parseFieldDescriptor (TJ0 k).2.2.1 = some (tyJ0 k) := by decide +kernel
abbrev cJ0_init : ByteArray := prog_25_method_1_code
def yJ0_init : MethodName := ⟨RJ0, "<init>", "()V"⟩
def dkwJ0_init_1 : List UInt8 := [182, 0, 27, 87, 177]
abbrev dktJ0_init_1 : List UInt8 := dkwJ0_init_1 ++ []
def dkwJ0_init_0 : List UInt8 := [42, 183, 0, 1, 42, 42, 181, 0, 7, 42, 178, 0, 13, 181, 0, 17, 42, 178, 0, 20, 181, 0, 24, 42]
abbrev dktJ0_init_0 : List UInt8 := dkwJ0_init_0 ++ dktJ0_init_1
theorem dksJ0_init_0 : cJ0_init.data.toList.drop 0 = dktJ0_init_0 := by decide +kernel
theorem dksJ0_init_1 : cJ0_init.data.toList.drop 24 = dktJ0_init_1 := dk_seg dksJ0_init_0 24 rfl rfl
theorem dJ0_init_0 : decode cJ0_init 0 = .ok (.aload_n 0, 1) := dk_42 (dk_at dksJ0_init_0 0 rfl rfl)
theorem dJ0_init_1 : decode cJ0_init 1 = .ok (.invokespecial 1, 3) := dk_183 0 1 (dk_at dksJ0_init_0 1 rfl rfl)
theorem dJ0_init_4 : decode cJ0_init 4 = .ok (.aload_n 0, 1) := dk_42 (dk_at dksJ0_init_0 4 rfl rfl)
theorem dJ0_init_5 : decode cJ0_init 5 = .ok (.aload_n 0, 1) := dk_42 (dk_at dksJ0_init_0 5 rfl rfl)
theorem dJ0_init_6 : decode cJ0_init 6 = .ok (.putfield 7, 3) := dk_181 0 7 (dk_at dksJ0_init_0 6 rfl rfl)
theorem dJ0_init_9 : decode cJ0_init 9 = .ok (.aload_n 0, 1) := dk_42 (dk_at dksJ0_init_0 9 rfl rfl)
theorem dJ0_init_10 : decode cJ0_init 10 = .ok (.getstatic 13, 3) := dk_178 0 13 (dk_at dksJ0_init_0 10 rfl rfl)
theorem dJ0_init_13 : decode cJ0_init 13 = .ok (.putfield 17, 3) := dk_181 0 17 (dk_at dksJ0_init_0 13 rfl rfl)
theorem dJ0_init_16 : decode cJ0_init 16 = .ok (.aload_n 0, 1) := dk_42 (dk_at dksJ0_init_0 16 rfl rfl)
theorem dJ0_init_17 : decode cJ0_init 17 = .ok (.getstatic 20, 3) := dk_178 0 20 (dk_at dksJ0_init_0 17 rfl rfl)
theorem dJ0_init_20 : decode cJ0_init 20 = .ok (.putfield 24, 3) := dk_181 0 24 (dk_at dksJ0_init_0 20 rfl rfl)
theorem dJ0_init_23 : decode cJ0_init 23 = .ok (.aload_n 0, 1) := dk_42 (dk_at dksJ0_init_0 23 rfl rfl)
theorem dJ0_init_24 : decode cJ0_init 24 = .ok (.invokevirtual 27, 3) := dk_182 0 27 (dk_at dksJ0_init_1 0 rfl rfl)
theorem dJ0_init_27 : decode cJ0_init 27 = .ok (.pop, 1) := dk_87 (dk_at dksJ0_init_1 3 rfl rfl)
theorem dJ0_init_28 : decode cJ0_init 28 = .ok (.return_, 1) := dk_177 (dk_at dksJ0_init_1 4 rfl rfl)
abbrev cJ0_init_2 : ByteArray := prog_25_method_5_code
def yJ0_init_2 : MethodName := ⟨RJ0, "<init>", "(Ljava/lang/String;Ljava/lang/Throwable;ZZ)V"⟩
def dkwJ0_init_2_2 : List UInt8 := [44, 181, 0, 7, 29, 154, 0, 8, 42, 1, 181, 0, 24, 177]
abbrev dktJ0_init_2_2 : List UInt8 := dkwJ0_init_2_2 ++ []
def dkwJ0_init_2_1 : List UInt8 := [21, 4, 153, 0, 11, 42, 182, 0, 27, 87, 167, 0, 8, 42, 1, 181, 0, 17, 42, 43, 181, 0, 31, 42]
abbrev dktJ0_init_2_1 : List UInt8 := dkwJ0_init_2_1 ++ dktJ0_init_2_2
def dkwJ0_init_2_0 : List UInt8 := [42, 183, 0, 1, 42, 42, 181, 0, 7, 42, 178, 0, 13, 181, 0, 17, 42, 178, 0, 20, 181, 0, 24]
abbrev dktJ0_init_2_0 : List UInt8 := dkwJ0_init_2_0 ++ dktJ0_init_2_1
theorem dksJ0_init_2_0 : cJ0_init_2.data.toList.drop 0 = dktJ0_init_2_0 := by decide +kernel
theorem dksJ0_init_2_1 : cJ0_init_2.data.toList.drop 23 = dktJ0_init_2_1 := dk_seg dksJ0_init_2_0 23 rfl rfl
theorem dksJ0_init_2_2 : cJ0_init_2.data.toList.drop 47 = dktJ0_init_2_2 := dk_seg dksJ0_init_2_1 24 rfl rfl
theorem dJ0_init_2_0 : decode cJ0_init_2 0 = .ok (.aload_n 0, 1) := dk_42 (dk_at dksJ0_init_2_0 0 rfl rfl)
theorem dJ0_init_2_1 : decode cJ0_init_2 1 = .ok (.invokespecial 1, 3) := dk_183 0 1 (dk_at dksJ0_init_2_0 1 rfl rfl)
theorem dJ0_init_2_4 : decode cJ0_init_2 4 = .ok (.aload_n 0, 1) := dk_42 (dk_at dksJ0_init_2_0 4 rfl rfl)
theorem dJ0_init_2_5 : decode cJ0_init_2 5 = .ok (.aload_n 0, 1) := dk_42 (dk_at dksJ0_init_2_0 5 rfl rfl)
theorem dJ0_init_2_6 : decode cJ0_init_2 6 = .ok (.putfield 7, 3) := dk_181 0 7 (dk_at dksJ0_init_2_0 6 rfl rfl)
theorem dJ0_init_2_9 : decode cJ0_init_2 9 = .ok (.aload_n 0, 1) := dk_42 (dk_at dksJ0_init_2_0 9 rfl rfl)
theorem dJ0_init_2_10 : decode cJ0_init_2 10 = .ok (.getstatic 13, 3) := dk_178 0 13 (dk_at dksJ0_init_2_0 10 rfl rfl)
theorem dJ0_init_2_13 : decode cJ0_init_2 13 = .ok (.putfield 17, 3) := dk_181 0 17 (dk_at dksJ0_init_2_0 13 rfl rfl)
theorem dJ0_init_2_16 : decode cJ0_init_2 16 = .ok (.aload_n 0, 1) := dk_42 (dk_at dksJ0_init_2_0 16 rfl rfl)
theorem dJ0_init_2_17 : decode cJ0_init_2 17 = .ok (.getstatic 20, 3) := dk_178 0 20 (dk_at dksJ0_init_2_0 17 rfl rfl)
theorem dJ0_init_2_20 : decode cJ0_init_2 20 = .ok (.putfield 24, 3) := dk_181 0 24 (dk_at dksJ0_init_2_0 20 rfl rfl)
theorem dJ0_init_2_23 : decode cJ0_init_2 23 = .ok (.iload 4, 2) := dk_21 4 (dk_at dksJ0_init_2_1 0 rfl rfl)
theorem dJ0_init_2_25 : decode cJ0_init_2 25 = .ok (.ifCond .eq 11, 3) := dk_153 0 11 (dk_at dksJ0_init_2_1 2 rfl rfl)
theorem dJ0_init_2_28 : decode cJ0_init_2 28 = .ok (.aload_n 0, 1) := dk_42 (dk_at dksJ0_init_2_1 5 rfl rfl)
theorem dJ0_init_2_29 : decode cJ0_init_2 29 = .ok (.invokevirtual 27, 3) := dk_182 0 27 (dk_at dksJ0_init_2_1 6 rfl rfl)
theorem dJ0_init_2_32 : decode cJ0_init_2 32 = .ok (.pop, 1) := dk_87 (dk_at dksJ0_init_2_1 9 rfl rfl)
theorem dJ0_init_2_33 : decode cJ0_init_2 33 = .ok (.goto 8, 3) := dk_167 0 8 (dk_at dksJ0_init_2_1 10 rfl rfl)
theorem dJ0_init_2_36 : decode cJ0_init_2 36 = .ok (.aload_n 0, 1) := dk_42 (dk_at dksJ0_init_2_1 13 rfl rfl)
theorem dJ0_init_2_37 : decode cJ0_init_2 37 = .ok (.aconst_null, 1) := dk_1 (dk_at dksJ0_init_2_1 14 rfl rfl)
theorem dJ0_init_2_38 : decode cJ0_init_2 38 = .ok (.putfield 17, 3) := dk_181 0 17 (dk_at dksJ0_init_2_1 15 rfl rfl)
theorem dJ0_init_2_41 : decode cJ0_init_2 41 = .ok (.aload_n 0, 1) := dk_42 (dk_at dksJ0_init_2_1 18 rfl rfl)
theorem dJ0_init_2_42 : decode cJ0_init_2 42 = .ok (.aload_n 1, 1) := dk_43 (dk_at dksJ0_init_2_1 19 rfl rfl)
theorem dJ0_init_2_43 : decode cJ0_init_2 43 = .ok (.putfield 31, 3) := dk_181 0 31 (dk_at dksJ0_init_2_1 20 rfl rfl)
theorem dJ0_init_2_46 : decode cJ0_init_2 46 = .ok (.aload_n 0, 1) := dk_42 (dk_at dksJ0_init_2_1 23 rfl rfl)
theorem dJ0_init_2_47 : decode cJ0_init_2 47 = .ok (.aload_n 2, 1) := dk_44 (dk_at dksJ0_init_2_2 0 rfl rfl)
theorem dJ0_init_2_48 : decode cJ0_init_2 48 = .ok (.putfield 7, 3) := dk_181 0 7 (dk_at dksJ0_init_2_2 1 rfl rfl)
theorem dJ0_init_2_51 : decode cJ0_init_2 51 = .ok (.iload_n 3, 1) := dk_29 (dk_at dksJ0_init_2_2 4 rfl rfl)
theorem dJ0_init_2_52 : decode cJ0_init_2 52 = .ok (.ifCond .ne 8, 3) := dk_154 0 8 (dk_at dksJ0_init_2_2 5 rfl rfl)
theorem dJ0_init_2_55 : decode cJ0_init_2 55 = .ok (.aload_n 0, 1) := dk_42 (dk_at dksJ0_init_2_2 8 rfl rfl)
theorem dJ0_init_2_56 : decode cJ0_init_2 56 = .ok (.aconst_null, 1) := dk_1 (dk_at dksJ0_init_2_2 9 rfl rfl)
theorem dJ0_init_2_57 : decode cJ0_init_2 57 = .ok (.putfield 24, 3) := dk_181 0 24 (dk_at dksJ0_init_2_2 10 rfl rfl)
theorem dJ0_init_2_60 : decode cJ0_init_2 60 = .ok (.return_, 1) := dk_177 (dk_at dksJ0_init_2_2 13 rfl rfl)
abbrev cJ0_init_3 : ByteArray := prog_25_method_2_code
def yJ0_init_3 : MethodName := ⟨RJ0, "<init>", "(Ljava/lang/String;)V"⟩
def dkwJ0_init_3_1 : List UInt8 := [182, 0, 27, 87, 42, 43, 181, 0, 31, 177]
abbrev dktJ0_init_3_1 : List UInt8 := dkwJ0_init_3_1 ++ []
def dkwJ0_init_3_0 : List UInt8 := [42, 183, 0, 1, 42, 42, 181, 0, 7, 42, 178, 0, 13, 181, 0, 17, 42, 178, 0, 20, 181, 0, 24, 42]
abbrev dktJ0_init_3_0 : List UInt8 := dkwJ0_init_3_0 ++ dktJ0_init_3_1
theorem dksJ0_init_3_0 : cJ0_init_3.data.toList.drop 0 = dktJ0_init_3_0 := by decide +kernel
theorem dksJ0_init_3_1 : cJ0_init_3.data.toList.drop 24 = dktJ0_init_3_1 := dk_seg dksJ0_init_3_0 24 rfl rfl
theorem dJ0_init_3_0 : decode cJ0_init_3 0 = .ok (.aload_n 0, 1) := dk_42 (dk_at dksJ0_init_3_0 0 rfl rfl)
theorem dJ0_init_3_1 : decode cJ0_init_3 1 = .ok (.invokespecial 1, 3) := dk_183 0 1 (dk_at dksJ0_init_3_0 1 rfl rfl)
theorem dJ0_init_3_4 : decode cJ0_init_3 4 = .ok (.aload_n 0, 1) := dk_42 (dk_at dksJ0_init_3_0 4 rfl rfl)
theorem dJ0_init_3_5 : decode cJ0_init_3 5 = .ok (.aload_n 0, 1) := dk_42 (dk_at dksJ0_init_3_0 5 rfl rfl)
theorem dJ0_init_3_6 : decode cJ0_init_3 6 = .ok (.putfield 7, 3) := dk_181 0 7 (dk_at dksJ0_init_3_0 6 rfl rfl)
theorem dJ0_init_3_9 : decode cJ0_init_3 9 = .ok (.aload_n 0, 1) := dk_42 (dk_at dksJ0_init_3_0 9 rfl rfl)
theorem dJ0_init_3_10 : decode cJ0_init_3 10 = .ok (.getstatic 13, 3) := dk_178 0 13 (dk_at dksJ0_init_3_0 10 rfl rfl)
theorem dJ0_init_3_13 : decode cJ0_init_3 13 = .ok (.putfield 17, 3) := dk_181 0 17 (dk_at dksJ0_init_3_0 13 rfl rfl)
theorem dJ0_init_3_16 : decode cJ0_init_3 16 = .ok (.aload_n 0, 1) := dk_42 (dk_at dksJ0_init_3_0 16 rfl rfl)
theorem dJ0_init_3_17 : decode cJ0_init_3 17 = .ok (.getstatic 20, 3) := dk_178 0 20 (dk_at dksJ0_init_3_0 17 rfl rfl)
theorem dJ0_init_3_20 : decode cJ0_init_3 20 = .ok (.putfield 24, 3) := dk_181 0 24 (dk_at dksJ0_init_3_0 20 rfl rfl)
theorem dJ0_init_3_23 : decode cJ0_init_3 23 = .ok (.aload_n 0, 1) := dk_42 (dk_at dksJ0_init_3_0 23 rfl rfl)
theorem dJ0_init_3_24 : decode cJ0_init_3 24 = .ok (.invokevirtual 27, 3) := dk_182 0 27 (dk_at dksJ0_init_3_1 0 rfl rfl)
theorem dJ0_init_3_27 : decode cJ0_init_3 27 = .ok (.pop, 1) := dk_87 (dk_at dksJ0_init_3_1 3 rfl rfl)
theorem dJ0_init_3_28 : decode cJ0_init_3 28 = .ok (.aload_n 0, 1) := dk_42 (dk_at dksJ0_init_3_1 4 rfl rfl)
theorem dJ0_init_3_29 : decode cJ0_init_3 29 = .ok (.aload_n 1, 1) := dk_43 (dk_at dksJ0_init_3_1 5 rfl rfl)
theorem dJ0_init_3_30 : decode cJ0_init_3 30 = .ok (.putfield 31, 3) := dk_181 0 31 (dk_at dksJ0_init_3_1 6 rfl rfl)
theorem dJ0_init_3_33 : decode cJ0_init_3 33 = .ok (.return_, 1) := dk_177 (dk_at dksJ0_init_3_1 9 rfl rfl)
theorem q69 : (Jvm.Cond.initialized "java/lang/Throwable") ∈ lw_all := lw_g (lw_at lw_m1 10 rfl) rfl
theorem q297 : (Jvm.Cond.declares ({ cls := "java/lang/Throwable", name := "<init>", desc := "()V" } : Jvm.MethodName)) ∈ lw_tbl := lw_at lw_m1 238 rfl
theorem q298 : (Jvm.Cond.declares ({ cls := "java/lang/Throwable", name := "<init>", desc := "(Ljava/lang/String;)V" } : Jvm.MethodName)) ∈ lw_tbl := lw_at lw_m1 239 rfl
theorem q302 : (Jvm.Cond.lays "java/lang/Throwable" "java/lang/Throwable" "cause" "Ljava/lang/Throwable;") ∈ lw_all := lw_g (lw_at lw_m2 3 rfl) rfl
theorem q304 : (Jvm.Cond.lays "java/lang/Throwable" "java/lang/Throwable" "stackTrace" "[Ljava/lang/StackTraceElement;") ∈ lw_all := lw_g (lw_at lw_m2 5 rfl) rfl
theorem q306 : (Jvm.Cond.lays "java/lang/Throwable" "java/lang/Throwable" "suppressedExceptions" "Ljava/util/List;") ∈ lw_all := lw_g (lw_at lw_m2 7 rfl) rfl
theorem q308 : (Jvm.Cond.lays "java/lang/Throwable" "java/lang/Throwable" "detailMessage" "Ljava/lang/String;") ∈ lw_all := lw_g (lw_at lw_m2 9 rfl) rfl
theorem q310 : (Jvm.Cond.lays "java/lang/Throwable" "java/lang/Throwable" "backtrace" "Ljava/lang/Object;") ∈ lw_all := lw_g (lw_at lw_m2 11 rfl) rfl
theorem q311 : (Jvm.Cond.fieldLink "java/lang/Throwable" (198 : Nat) "java/lang/Throwable" "backtrace" "Ljava/lang/Object;") ∈ lw_all := lw_g (lw_at lw_m2 12 rfl) rfl
theorem q312 : (Jvm.Cond.superclass "java/lang/Throwable" "java/lang/Object") ∈ lw_all := lw_g (lw_at lw_m2 13 rfl) rfl
theorem q313 : (Jvm.Cond.instanceMethod ({ cls := "java/lang/Throwable", name := "<init>", desc := "()V" } : Jvm.MethodName)) ∈ lw_all := lw_g (lw_at lw_m2 14 rfl) rfl
theorem q314 : (Jvm.Cond.code ({ cls := "java/lang/Throwable", name := "<init>", desc := "()V" } : Jvm.MethodName) prog_25_method_1_code (1 : Nat) (Option.none : Option Jvm.ClassFile.FieldType)) ∈ lw_all := lw_g (lw_at lw_m2 15 rfl) rfl
theorem q315 : (Jvm.Cond.methodLink "java/lang/Throwable" (1 : Nat) ({ cls := "java/lang/Object", name := "<init>", desc := "()V" } : Jvm.MethodName)) ∈ lw_all := lw_g (lw_at lw_m2 16 rfl) rfl
theorem q316 : (Jvm.Cond.fieldLink "java/lang/Throwable" (13 : Nat) "java/lang/Throwable" "UNASSIGNED_STACK" "[Ljava/lang/StackTraceElement;") ∈ lw_all := lw_g (lw_at lw_m2 17 rfl) rfl
theorem q317 : (Jvm.Cond.laysStatic "java/lang/Throwable" "UNASSIGNED_STACK" "[Ljava/lang/StackTraceElement;") ∈ lw_tbl := lw_at lw_m2 18 rfl
theorem q318 : (Jvm.Cond.fieldLink "java/lang/Throwable" (20 : Nat) "java/lang/Throwable" "SUPPRESSED_SENTINEL" "Ljava/util/List;") ∈ lw_all := lw_g (lw_at lw_m2 19 rfl) rfl
theorem q319 : (Jvm.Cond.laysStatic "java/lang/Throwable" "SUPPRESSED_SENTINEL" "Ljava/util/List;") ∈ lw_tbl := lw_at lw_m2 20 rfl
theorem q320 : (Jvm.Cond.methodLink "java/lang/Throwable" (27 : Nat) ({ cls := "java/lang/Throwable", name := "fillInStackTrace", desc := "()Ljava/lang/Throwable;" } : Jvm.MethodName)) ∈ lw_all := lw_g (lw_at lw_m2 21 rfl) rfl
theorem q321 : (Jvm.Cond.instanceMethod ({ cls := "java/lang/Throwable", name := "fillInStackTrace", desc := "()Ljava/lang/Throwable;" } : Jvm.MethodName)) ∈ lw_all := lw_g (lw_at lw_m2 22 rfl) rfl
theorem q322 : (Jvm.Cond.sameMethod "java/lang/Throwable" "java/lang/Throwable" "fillInStackTrace" "()Ljava/lang/Throwable;") ∈ lw_all := lw_g (lw_at lw_m2 23 rfl) rfl
theorem q336 : (Jvm.Cond.declares ({ cls := "java/lang/Throwable", name := "fillInStackTrace", desc := "()Ljava/lang/Throwable;" } : Jvm.MethodName)) ∈ lw_tbl := lw_at lw_m2 37 rfl
theorem q340 : (Jvm.Cond.codeSync ({ cls := "java/lang/Throwable", name := "fillInStackTrace", desc := "()Ljava/lang/Throwable;" } : Jvm.MethodName) prog_25_method_18_code (1 : Nat) (Option.some (Jvm.ClassFile.FieldType.object "java/lang/Throwable"))) ∈ lw_all := lw_g (lw_at lw_m2 41 rfl) rfl
theorem q341 : (Jvm.Cond.methodLink "java/lang/Throwable" (202 : Nat) ({ cls := "java/lang/Throwable", name := "fillInStackTrace", desc := "(I)Ljava/lang/Throwable;" } : Jvm.MethodName)) ∈ lw_all := lw_g (lw_at lw_m2 42 rfl) rfl
theorem q342 : (Jvm.Cond.privateMethod ({ cls := "java/lang/Throwable", name := "fillInStackTrace", desc := "(I)Ljava/lang/Throwable;" } : Jvm.MethodName)) ∈ lw_tbl := lw_at lw_m2 43 rfl
theorem q343 : (Jvm.Cond.instanceMethod ({ cls := "java/lang/Throwable", name := "fillInStackTrace", desc := "(I)Ljava/lang/Throwable;" } : Jvm.MethodName)) ∈ lw_all := lw_g (lw_at lw_m2 44 rfl) rfl
theorem q344 : (Jvm.Cond.instantiable "java/lang/Throwable" (6 : Nat)) ∈ lw_all := lw_g (lw_at lw_m2 45 rfl) rfl
theorem q345 : (Jvm.Cond.native ({ cls := "java/lang/Throwable", name := "fillInStackTrace", desc := "(I)Ljava/lang/Throwable;" } : Jvm.MethodName)) ∈ lw_all := lw_g (lw_at lw_m2 46 rfl) rfl
theorem q353 : (Jvm.Cond.instanceMethod ({ cls := "java/lang/Throwable", name := "<init>", desc := "(Ljava/lang/String;Ljava/lang/Throwable;ZZ)V" } : Jvm.MethodName)) ∈ lw_all := lw_g (lw_at lw_m2 54 rfl) rfl
theorem q354 : (Jvm.Cond.code ({ cls := "java/lang/Throwable", name := "<init>", desc := "(Ljava/lang/String;Ljava/lang/Throwable;ZZ)V" } : Jvm.MethodName) prog_25_method_5_code (5 : Nat) (Option.none : Option Jvm.ClassFile.FieldType)) ∈ lw_all := lw_g (lw_at lw_m2 55 rfl) rfl
theorem q359 : (Jvm.Cond.fieldLink "java/lang/Throwable" (198 : Nat) "java/lang/Throwable" "backtrace" "Ljava/lang/Object;") ∈ lw_all := lw_g (lw_at lw_m2 60 rfl) rfl
theorem q360 : (Jvm.Cond.fieldLink "java/lang/Throwable" (31 : Nat) "java/lang/Throwable" "detailMessage" "Ljava/lang/String;") ∈ lw_all := lw_g (lw_at lw_m2 61 rfl) rfl
theorem q361 : (Jvm.Cond.fieldLink "java/lang/Throwable" (7 : Nat) "java/lang/Throwable" "cause" "Ljava/lang/Throwable;") ∈ lw_all := lw_g (lw_at lw_m2 62 rfl) rfl
theorem q362 : (Jvm.Cond.fieldLink "java/lang/Throwable" (17 : Nat) "java/lang/Throwable" "stackTrace" "[Ljava/lang/StackTraceElement;") ∈ lw_all := lw_g (lw_at lw_m2 63 rfl) rfl
theorem q363 : (Jvm.Cond.fieldLink "java/lang/Throwable" (24 : Nat) "java/lang/Throwable" "suppressedExceptions" "Ljava/util/List;") ∈ lw_all := lw_g (lw_at lw_m2 64 rfl) rfl
theorem q368 : (Jvm.Cond.soleField "java/lang/Throwable" "backtrace") ∈ lw_all := lw_g (lw_at lw_m2 69 rfl) rfl
theorem q369 : (Jvm.Cond.soleField "java/lang/Throwable" "detailMessage") ∈ lw_all := lw_g (lw_at lw_m2 70 rfl) rfl
theorem q370 : (Jvm.Cond.soleField "java/lang/Throwable" "cause") ∈ lw_all := lw_g (lw_at lw_m2 71 rfl) rfl
theorem q371 : (Jvm.Cond.soleField "java/lang/Throwable" "stackTrace") ∈ lw_all := lw_g (lw_at lw_m2 72 rfl) rfl
theorem q373 : (Jvm.Cond.soleField "java/lang/Throwable" "depth") ∈ lw_all := lw_g (lw_at lw_m2 74 rfl) rfl
theorem q374 : (Jvm.Cond.soleField "java/lang/Throwable" "suppressedExceptions") ∈ lw_all := lw_g (lw_at lw_m2 75 rfl) rfl
theorem q849 : (Jvm.Cond.instanceMethod ({ cls := "java/lang/Throwable", name := "<init>", desc := "(Ljava/lang/String;)V" } : Jvm.MethodName)) ∈ lw_all := lw_g (lw_at lw_m4 70 rfl) rfl
theorem q850 : (Jvm.Cond.code ({ cls := "java/lang/Throwable", name := "<init>", desc := "(Ljava/lang/String;)V" } : Jvm.MethodName) prog_25_method_2_code (2 : Nat) (Option.none : Option Jvm.ClassFile.FieldType)) ∈ lw_all := lw_g (lw_at lw_m4 71 rfl) rfl
theorem q1375 : (Jvm.Cond.sameMethod "java/lang/Throwable" "java/lang/Throwable" "fillInStackTrace" "(I)Ljava/lang/Throwable;") ∈ lw_all := lw_g (lw_at lw_m6 116 rfl) rfl
theorem in_J0 : ∀ w ∈ wsJ00, w ∈ lw_all := lw_in wsJ00 [302, 304, 306, 308, 310] (by decide +kernel) (by decide +kernel)
/-! java/lang/Exception -/
set_option maxRecDepth 100000
def RJ1 : String := "java/lang/Exception"
abbrev cJ1_init : ByteArray := prog_14_method_5_code
def yJ1_init : MethodName := ⟨RJ1, "<init>", "(Ljava/lang/String;Ljava/lang/Throwable;ZZ)V"⟩
def dkwJ1_init_0 : List UInt8 := [42, 43, 44, 29, 21, 4, 183, 0, 16, 177]
abbrev dktJ1_init_0 : List UInt8 := dkwJ1_init_0 ++ []
theorem dksJ1_init_0 : cJ1_init.data.toList.drop 0 = dktJ1_init_0 := by decide +kernel
theorem dJ1_init_0 : decode cJ1_init 0 = .ok (.aload_n 0, 1) := dk_42 (dk_at dksJ1_init_0 0 rfl rfl)
theorem dJ1_init_1 : decode cJ1_init 1 = .ok (.aload_n 1, 1) := dk_43 (dk_at dksJ1_init_0 1 rfl rfl)
theorem dJ1_init_2 : decode cJ1_init 2 = .ok (.aload_n 2, 1) := dk_44 (dk_at dksJ1_init_0 2 rfl rfl)
theorem dJ1_init_3 : decode cJ1_init 3 = .ok (.iload_n 3, 1) := dk_29 (dk_at dksJ1_init_0 3 rfl rfl)
theorem dJ1_init_4 : decode cJ1_init 4 = .ok (.iload 4, 2) := dk_21 4 (dk_at dksJ1_init_0 4 rfl rfl)
theorem dJ1_init_6 : decode cJ1_init 6 = .ok (.invokespecial 16, 3) := dk_183 0 16 (dk_at dksJ1_init_0 6 rfl rfl)
theorem dJ1_init_9 : decode cJ1_init 9 = .ok (.return_, 1) := dk_177 (dk_at dksJ1_init_0 9 rfl rfl)
abbrev cJ1_init_2 : ByteArray := prog_14_method_2_code
def yJ1_init_2 : MethodName := ⟨RJ1, "<init>", "(Ljava/lang/String;)V"⟩
def dkwJ1_init_2_0 : List UInt8 := [42, 43, 183, 0, 7, 177]
abbrev dktJ1_init_2_0 : List UInt8 := dkwJ1_init_2_0 ++ []
theorem dksJ1_init_2_0 : cJ1_init_2.data.toList.drop 0 = dktJ1_init_2_0 := by decide +kernel
theorem dJ1_init_2_0 : decode cJ1_init_2 0 = .ok (.aload_n 0, 1) := dk_42 (dk_at dksJ1_init_2_0 0 rfl rfl)
theorem dJ1_init_2_1 : decode cJ1_init_2 1 = .ok (.aload_n 1, 1) := dk_43 (dk_at dksJ1_init_2_0 1 rfl rfl)
theorem dJ1_init_2_2 : decode cJ1_init_2 2 = .ok (.invokespecial 7, 3) := dk_183 0 7 (dk_at dksJ1_init_2_0 2 rfl rfl)
theorem dJ1_init_2_5 : decode cJ1_init_2 5 = .ok (.return_, 1) := dk_177 (dk_at dksJ1_init_2_0 5 rfl rfl)
abbrev cJ1_init_3 : ByteArray := prog_14_method_1_code
def yJ1_init_3 : MethodName := ⟨RJ1, "<init>", "()V"⟩
theorem dJ1_init_3_0 : decode cJ1_init_3 0 = .ok (.aload_n 0, 1) := by decide +kernel
theorem dJ1_init_3_1 : decode cJ1_init_3 1 = .ok (.invokespecial 1, 3) := by decide +kernel
theorem dJ1_init_3_4 : decode cJ1_init_3 4 = .ok (.return_, 1) := by decide +kernel
theorem q70 : (Jvm.Cond.initialized "java/lang/Exception") ∈ lw_all := lw_g (lw_at lw_m1 11 rfl) rfl
theorem q295 : (Jvm.Cond.declares ({ cls := "java/lang/Exception", name := "<init>", desc := "()V" } : Jvm.MethodName)) ∈ lw_tbl := lw_at lw_m1 236 rfl
theorem q296 : (Jvm.Cond.declares ({ cls := "java/lang/Exception", name := "<init>", desc := "(Ljava/lang/String;)V" } : Jvm.MethodName)) ∈ lw_tbl := lw_at lw_m1 237 rfl
theorem q339 : (Jvm.Cond.superclass "java/lang/Exception" "java/lang/Throwable") ∈ lw_all := lw_g (lw_at lw_m2 40 rfl) rfl
theorem q350 : (Jvm.Cond.instanceMethod ({ cls := "java/lang/Exception", name := "<init>", desc := "(Ljava/lang/String;Ljava/lang/Throwable;ZZ)V" } : Jvm.MethodName)) ∈ lw_all := lw_g (lw_at lw_m2 51 rfl) rfl
theorem q351 : (Jvm.Cond.code ({ cls := "java/lang/Exception", name := "<init>", desc := "(Ljava/lang/String;Ljava/lang/Throwable;ZZ)V" } : Jvm.MethodName) prog_14_method_5_code (5 : Nat) (Option.none : Option Jvm.ClassFile.FieldType)) ∈ lw_all := lw_g (lw_at lw_m2 52 rfl) rfl
theorem q352 : (Jvm.Cond.methodLink "java/lang/Exception" (16 : Nat) ({ cls := "java/lang/Throwable", name := "<init>", desc := "(Ljava/lang/String;Ljava/lang/Throwable;ZZ)V" } : Jvm.MethodName)) ∈ lw_all := lw_g (lw_at lw_m2 53 rfl) rfl
theorem q846 : (Jvm.Cond.instanceMethod ({ cls := "java/lang/Exception", name := "<init>", desc := "(Ljava/lang/String;)V" } : Jvm.MethodName)) ∈ lw_all := lw_g (lw_at lw_m4 67 rfl) rfl
theorem q847 : (Jvm.Cond.code ({ cls := "java/lang/Exception", name := "<init>", desc := "(Ljava/lang/String;)V" } : Jvm.MethodName) prog_14_method_2_code (2 : Nat) (Option.none : Option Jvm.ClassFile.FieldType)) ∈ lw_all := lw_g (lw_at lw_m4 68 rfl) rfl
theorem q848 : (Jvm.Cond.methodLink "java/lang/Exception" (7 : Nat) ({ cls := "java/lang/Throwable", name := "<init>", desc := "(Ljava/lang/String;)V" } : Jvm.MethodName)) ∈ lw_all := lw_g (lw_at lw_m4 69 rfl) rfl
theorem q883 : (Jvm.Cond.instanceMethod ({ cls := "java/lang/Exception", name := "<init>", desc := "()V" } : Jvm.MethodName)) ∈ lw_all := lw_g (lw_at lw_m4 104 rfl) rfl
theorem q884 : (Jvm.Cond.code ({ cls := "java/lang/Exception", name := "<init>", desc := "()V" } : Jvm.MethodName) prog_14_method_1_code (1 : Nat) (Option.none : Option Jvm.ClassFile.FieldType)) ∈ lw_all := lw_g (lw_at lw_m4 105 rfl) rfl
theorem q885 : (Jvm.Cond.methodLink "java/lang/Exception" (1 : Nat) ({ cls := "java/lang/Throwable", name := "<init>", desc := "()V" } : Jvm.MethodName)) ∈ lw_all := lw_g (lw_at lw_m4 106 rfl) rfl
/-! java/lang/NullPointerException -/
set_option maxRecDepth 100000
def RJ10 : String := "java/lang/NullPointerException"
def TJ10 : u_T := fun k => match k with
  | 0 => ("java/lang/Throwable", "backtrace", "Ljava/lang/Object;", false)
  | 1 => ("java/lang/Throwable", "detailMessage", "Ljava/lang/String;", false)
  | 2 => ("java/lang/Throwable", "cause", "Ljava/lang/Throwable;", false)
  | 3 => ("java/lang/Throwable", "stackTrace", "[Ljava/lang/StackTraceElement;", false)
  | 4 => ("java/lang/Throwable", "depth", "I", false)
  | 5 => ("java/lang/Throwable", "suppressedExceptions", "Ljava/util/List;", false)
  | 6 => ("java/lang/NullPointerException", "extendedMessageState", "I", false)
  | _ => ("java/lang/NullPointerException", "extendedMessage", "Ljava/lang/String;", false)
def tyJ10 : Nat → FieldType := fun k => match k with
  | 0 => .object "java/lang/Object"
  | 1 => .object "java/lang/String"
  | 2 => .object "java/lang/Throwable"
  | 3 => .array (.object "java/lang/StackTraceElement")
  | 4 => .int
  | 5 => .object "java/util/List"
  | 6 => .int
  | _ => .object "java/lang/String"
abbrev wsJ100 : List Cond := u_ws RJ10 TJ10 8
theorem nmJ10 : ∀ a, a < 8 → ∀ b, b < 8 → a ≠ b → (TJ10 a).2.1 ≠ (TJ10 b).2.1 := by decide +kernel
theorem tyJ10_ok : ∀ k, k < 8 → parseFieldDescriptor (TJ10 k).2.2.1 = some (tyJ10 k) := by decide +kernel
abbrev cJ10_init : ByteArray := prog_19_method_1_code
def yJ10_init : MethodName := ⟨RJ10, "<init>", "()V"⟩
theorem dJ10_init_0 : decode cJ10_init 0 = .ok (.aload_n 0, 1) := by decide +kernel
theorem dJ10_init_1 : decode cJ10_init 1 = .ok (.invokespecial 1, 3) := by decide +kernel
theorem dJ10_init_4 : decode cJ10_init 4 = .ok (.return_, 1) := by decide +kernel
theorem q81 : (Jvm.Cond.initialized "java/lang/NullPointerException") ∈ lw_all := lw_g (lw_at lw_m1 22 rfl) rfl
theorem q326 : (Jvm.Cond.selects "java/lang/NullPointerException" ({ cls := "java/lang/Throwable", name := "fillInStackTrace", desc := "()Ljava/lang/Throwable;" } : Jvm.MethodName) ({ cls := "java/lang/NullPointerException", name := "fillInStackTrace", desc := "()Ljava/lang/Throwable;" } : Jvm.MethodName)) ∈ lw_all := lw_g (lw_at lw_m2 27 rfl) rfl
theorem q327 : (Jvm.Cond.instanceMethod ({ cls := "java/lang/NullPointerException", name := "fillInStackTrace", desc := "()Ljava/lang/Throwable;" } : Jvm.MethodName)) ∈ lw_all := lw_g (lw_at lw_m2 28 rfl) rfl
theorem q328 : (Jvm.Cond.codeSync ({ cls := "java/lang/NullPointerException", name := "fillInStackTrace", desc := "()Ljava/lang/Throwable;" } : Jvm.MethodName) prog_19_method_3_code (1 : Nat) (Option.some (Jvm.ClassFile.FieldType.object "java/lang/Throwable"))) ∈ lw_all := lw_g (lw_at lw_m2 29 rfl) rfl
theorem q329 : (Jvm.Cond.methodLink "java/lang/NullPointerException" (16 : Nat) ({ cls := "java/lang/NullPointerException", name := "getExtendedNPEMessage", desc := "()Ljava/lang/String;" } : Jvm.MethodName)) ∈ lw_all := lw_g (lw_at lw_m2 30 rfl) rfl
theorem q330 : (Jvm.Cond.privateMethod ({ cls := "java/lang/NullPointerException", name := "getExtendedNPEMessage", desc := "()Ljava/lang/String;" } : Jvm.MethodName)) ∈ lw_tbl := lw_at lw_m2 31 rfl
theorem q331 : (Jvm.Cond.instanceMethod ({ cls := "java/lang/NullPointerException", name := "getExtendedNPEMessage", desc := "()Ljava/lang/String;" } : Jvm.MethodName)) ∈ lw_all := lw_g (lw_at lw_m2 32 rfl) rfl
theorem q332 : (Jvm.Cond.instantiable "java/lang/NullPointerException" (8 : Nat)) ∈ lw_all := lw_g (lw_at lw_m2 33 rfl) rfl
theorem q333 : (Jvm.Cond.native ({ cls := "java/lang/NullPointerException", name := "getExtendedNPEMessage", desc := "()Ljava/lang/String;" } : Jvm.MethodName)) ∈ lw_all := lw_g (lw_at lw_m2 34 rfl) rfl
theorem q334 : (Jvm.Cond.methodLink "java/lang/NullPointerException" (24 : Nat) ({ cls := "java/lang/RuntimeException", name := "fillInStackTrace", desc := "()Ljava/lang/Throwable;" } : Jvm.MethodName)) ∈ lw_all := lw_g (lw_at lw_m2 35 rfl) rfl
theorem q337 : (Jvm.Cond.superclass "java/lang/NullPointerException" "java/lang/RuntimeException") ∈ lw_all := lw_g (lw_at lw_m2 38 rfl) rfl
theorem q877 : (Jvm.Cond.instanceMethod ({ cls := "java/lang/NullPointerException", name := "<init>", desc := "()V" } : Jvm.MethodName)) ∈ lw_all := lw_g (lw_at lw_m4 98 rfl) rfl
theorem q878 : (Jvm.Cond.code ({ cls := "java/lang/NullPointerException", name := "<init>", desc := "()V" } : Jvm.MethodName) prog_19_method_1_code (1 : Nat) (Option.none : Option Jvm.ClassFile.FieldType)) ∈ lw_all := lw_g (lw_at lw_m4 99 rfl) rfl
theorem q879 : (Jvm.Cond.methodLink "java/lang/NullPointerException" (1 : Nat) ({ cls := "java/lang/RuntimeException", name := "<init>", desc := "()V" } : Jvm.MethodName)) ∈ lw_all := lw_g (lw_at lw_m4 100 rfl) rfl
theorem q886 : (Jvm.Cond.fieldLink "java/lang/NullPointerException" (10 : Nat) "java/lang/NullPointerException" "extendedMessageState" "I") ∈ lw_all := lw_g (lw_at lw_m4 107 rfl) rfl
theorem q887 : (Jvm.Cond.fieldLink "java/lang/NullPointerException" (20 : Nat) "java/lang/NullPointerException" "extendedMessage" "Ljava/lang/String;") ∈ lw_all := lw_g (lw_at lw_m4 108 rfl) rfl
theorem q888 : (Jvm.Cond.lays "java/lang/NullPointerException" "java/lang/NullPointerException" "extendedMessageState" "I") ∈ lw_all := lw_g (lw_at lw_m4 109 rfl) rfl
theorem q889 : (Jvm.Cond.soleField "java/lang/NullPointerException" "extendedMessageState") ∈ lw_all := lw_g (lw_at lw_m4 110 rfl) rfl
theorem q890 : (Jvm.Cond.lays "java/lang/NullPointerException" "java/lang/NullPointerException" "extendedMessage" "Ljava/lang/String;") ∈ lw_all := lw_g (lw_at lw_m4 111 rfl) rfl
theorem q891 : (Jvm.Cond.soleField "java/lang/NullPointerException" "extendedMessage") ∈ lw_all := lw_g (lw_at lw_m4 112 rfl) rfl
theorem q892 : (Jvm.Cond.lays "java/lang/NullPointerException" "java/lang/Throwable" "backtrace" "Ljava/lang/Object;") ∈ lw_all := lw_g (lw_at lw_m4 113 rfl) rfl
theorem q893 : (Jvm.Cond.lays "java/lang/NullPointerException" "java/lang/Throwable" "detailMessage" "Ljava/lang/String;") ∈ lw_all := lw_g (lw_at lw_m4 114 rfl) rfl
theorem q894 : (Jvm.Cond.lays "java/lang/NullPointerException" "java/lang/Throwable" "cause" "Ljava/lang/Throwable;") ∈ lw_all := lw_g (lw_at lw_m4 115 rfl) rfl
theorem q895 : (Jvm.Cond.lays "java/lang/NullPointerException" "java/lang/Throwable" "stackTrace" "[Ljava/lang/StackTraceElement;") ∈ lw_all := lw_g (lw_at lw_m4 116 rfl) rfl
theorem q896 : (Jvm.Cond.lays "java/lang/NullPointerException" "java/lang/Throwable" "depth" "I") ∈ lw_all := lw_g (lw_at lw_m4 117 rfl) rfl
theorem q897 : (Jvm.Cond.lays "java/lang/NullPointerException" "java/lang/Throwable" "suppressedExceptions" "Ljava/util/List;") ∈ lw_all := lw_g (lw_at lw_m4 118 rfl) rfl
theorem q898 : (Jvm.Cond.castable "java/lang/NullPointerException" "java/lang/NullPointerException") ∈ lw_tbl := lw_at lw_m4 119 rfl
theorem q899 : (Jvm.Cond.selects "java/lang/NullPointerException" ({ cls := "java/lang/Throwable", name := "fillInStackTrace", desc := "(I)Ljava/lang/Throwable;" } : Jvm.MethodName) ({ cls := "java/lang/Throwable", name := "fillInStackTrace", desc := "(I)Ljava/lang/Throwable;" } : Jvm.MethodName)) ∈ lw_all := lw_g (lw_at lw_m4 120 rfl) rfl
theorem in_J10 : ∀ w ∈ wsJ100, w ∈ lw_all := lw_in wsJ100 [892, 893, 894, 895, 896, 897, 888, 890] (by decide +kernel) (by decide +kernel)
/-! java/lang/IndexOutOfBoundsException -/
set_option maxRecDepth 100000
def RJ11 : String := "java/lang/IndexOutOfBoundsException"
abbrev cJ11_init : ByteArray := prog_15_method_2_code
def yJ11_init : MethodName := ⟨RJ11, "<init>", "(Ljava/lang/String;)V"⟩
def dkwJ11_init_0 : List UInt8 := [42, 43, 183, 0, 7, 177]
abbrev dktJ11_init_0 : List UInt8 := dkwJ11_init_0 ++ []
theorem dksJ11_init_0 : cJ11_init.data.toList.drop 0 = dktJ11_init_0 := by decide +kernel
theorem dJ11_init_0 : decode cJ11_init 0 = .ok (.aload_n 0, 1) := dk_42 (dk_at dksJ11_init_0 0 rfl rfl)
theorem dJ11_init_1 : decode cJ11_init 1 = .ok (.aload_n 1, 1) := dk_43 (dk_at dksJ11_init_0 1 rfl rfl)
theorem dJ11_init_2 : decode cJ11_init 2 = .ok (.invokespecial 7, 3) := dk_183 0 7 (dk_at dksJ11_init_0 2 rfl rfl)
theorem dJ11_init_5 : decode cJ11_init 5 = .ok (.return_, 1) := dk_177 (dk_at dksJ11_init_0 5 rfl rfl)
theorem q82 : (Jvm.Cond.initialized "java/lang/IndexOutOfBoundsException") ∈ lw_all := lw_g (lw_at lw_m1 23 rfl) rfl
theorem q906 : (Jvm.Cond.instanceMethod ({ cls := "java/lang/IndexOutOfBoundsException", name := "<init>", desc := "(Ljava/lang/String;)V" } : Jvm.MethodName)) ∈ lw_all := lw_g (lw_at lw_m4 127 rfl) rfl
theorem q907 : (Jvm.Cond.code ({ cls := "java/lang/IndexOutOfBoundsException", name := "<init>", desc := "(Ljava/lang/String;)V" } : Jvm.MethodName) prog_15_method_2_code (2 : Nat) (Option.none : Option Jvm.ClassFile.FieldType)) ∈ lw_all := lw_g (lw_at lw_m4 128 rfl) rfl
theorem q908 : (Jvm.Cond.methodLink "java/lang/IndexOutOfBoundsException" (7 : Nat) ({ cls := "java/lang/RuntimeException", name := "<init>", desc := "(Ljava/lang/String;)V" } : Jvm.MethodName)) ∈ lw_all := lw_g (lw_at lw_m4 129 rfl) rfl
theorem q917 : (Jvm.Cond.declares ({ cls := "java/lang/IndexOutOfBoundsException", name := "<init>", desc := "()V" } : Jvm.MethodName)) ∈ lw_tbl := lw_at lw_m4 138 rfl
theorem q918 : (Jvm.Cond.declares ({ cls := "java/lang/IndexOutOfBoundsException", name := "<init>", desc := "(Ljava/lang/String;)V" } : Jvm.MethodName)) ∈ lw_tbl := lw_at lw_m4 139 rfl
/-! java/lang/ArrayIndexOutOfBoundsException -/
set_option maxRecDepth 100000
def RJ12 : String := "java/lang/ArrayIndexOutOfBoundsException"
def TJ12 : u_T := fun k => match k with
  | 0 => ("java/lang/Throwable", "backtrace", "Ljava/lang/Object;", false)
  | 1 => ("java/lang/Throwable", "detailMessage", "Ljava/lang/String;", false)
  | 2 => ("java/lang/Throwable", "cause", "Ljava/lang/Throwable;", false)
  | 3 => ("java/lang/Throwable", "stackTrace", "[Ljava/lang/StackTraceElement;", false)
  | 4 => ("java/lang/Throwable", "depth", "I", false)
  | _ => ("java/lang/Throwable", "suppressedExceptions", "Ljava/util/List;", false)
def tyJ12 : Nat → FieldType := fun k => match k with
  | 0 => .object "java/lang/Object"
  | 1 => .object "java/lang/String"
  | 2 => .object "java/lang/Throwable"
  | 3 => .array (.object "java/lang/StackTraceElement")
  | 4 => .int
  | _ => .object "java/util/List"
abbrev wsJ120 : List Cond := u_ws RJ12 TJ12 6
theorem nmJ12 : ∀ a, a < 6 → ∀ b, b < 6 → a ≠ b → (TJ12 a).2.1 ≠ (TJ12 b).2.1 := by decide +kernel
theorem tyJ12_ok : ∀ k, k < 6 → parseFieldDescriptor (TJ12 k).2.2.1 = some (tyJ12 k) := by decide +kernel
abbrev cJ12_init : ByteArray := prog_12_method_2_code
def yJ12_init : MethodName := ⟨RJ12, "<init>", "(Ljava/lang/String;)V"⟩
def dkwJ12_init_0 : List UInt8 := [42, 43, 183, 0, 7, 177]
abbrev dktJ12_init_0 : List UInt8 := dkwJ12_init_0 ++ []
theorem dksJ12_init_0 : cJ12_init.data.toList.drop 0 = dktJ12_init_0 := by decide +kernel
theorem dJ12_init_0 : decode cJ12_init 0 = .ok (.aload_n 0, 1) := dk_42 (dk_at dksJ12_init_0 0 rfl rfl)
theorem dJ12_init_1 : decode cJ12_init 1 = .ok (.aload_n 1, 1) := dk_43 (dk_at dksJ12_init_0 1 rfl rfl)
theorem dJ12_init_2 : decode cJ12_init 2 = .ok (.invokespecial 7, 3) := dk_183 0 7 (dk_at dksJ12_init_0 2 rfl rfl)
theorem dJ12_init_5 : decode cJ12_init 5 = .ok (.return_, 1) := dk_177 (dk_at dksJ12_init_0 5 rfl rfl)
theorem q83 : (Jvm.Cond.initialized "java/lang/ArrayIndexOutOfBoundsException") ∈ lw_all := lw_g (lw_at lw_m1 24 rfl) rfl
theorem q323 : (Jvm.Cond.selects "java/lang/ArrayIndexOutOfBoundsException" ({ cls := "java/lang/Throwable", name := "fillInStackTrace", desc := "()Ljava/lang/Throwable;" } : Jvm.MethodName) ({ cls := "java/lang/Throwable", name := "fillInStackTrace", desc := "()Ljava/lang/Throwable;" } : Jvm.MethodName)) ∈ lw_all := lw_g (lw_at lw_m2 24 rfl) rfl
theorem q902 : (Jvm.Cond.instantiable "java/lang/ArrayIndexOutOfBoundsException" (6 : Nat)) ∈ lw_all := lw_g (lw_at lw_m4 123 rfl) rfl
theorem q903 : (Jvm.Cond.instanceMethod ({ cls := "java/lang/ArrayIndexOutOfBoundsException", name := "<init>", desc := "(Ljava/lang/String;)V" } : Jvm.MethodName)) ∈ lw_all := lw_g (lw_at lw_m4 124 rfl) rfl
theorem q904 : (Jvm.Cond.code ({ cls := "java/lang/ArrayIndexOutOfBoundsException", name := "<init>", desc := "(Ljava/lang/String;)V" } : Jvm.MethodName) prog_12_method_2_code (2 : Nat) (Option.none : Option Jvm.ClassFile.FieldType)) ∈ lw_all := lw_g (lw_at lw_m4 125 rfl) rfl
theorem q905 : (Jvm.Cond.methodLink "java/lang/ArrayIndexOutOfBoundsException" (7 : Nat) ({ cls := "java/lang/IndexOutOfBoundsException", name := "<init>", desc := "(Ljava/lang/String;)V" } : Jvm.MethodName)) ∈ lw_all := lw_g (lw_at lw_m4 126 rfl) rfl
theorem q909 : (Jvm.Cond.lays "java/lang/ArrayIndexOutOfBoundsException" "java/lang/Throwable" "backtrace" "Ljava/lang/Object;") ∈ lw_all := lw_g (lw_at lw_m4 130 rfl) rfl
theorem q910 : (Jvm.Cond.lays "java/lang/ArrayIndexOutOfBoundsException" "java/lang/Throwable" "detailMessage" "Ljava/lang/String;") ∈ lw_all := lw_g (lw_at lw_m4 131 rfl) rfl
theorem q911 : (Jvm.Cond.lays "java/lang/ArrayIndexOutOfBoundsException" "java/lang/Throwable" "cause" "Ljava/lang/Throwable;") ∈ lw_all := lw_g (lw_at lw_m4 132 rfl) rfl
theorem q912 : (Jvm.Cond.lays "java/lang/ArrayIndexOutOfBoundsException" "java/lang/Throwable" "stackTrace" "[Ljava/lang/StackTraceElement;") ∈ lw_all := lw_g (lw_at lw_m4 133 rfl) rfl
theorem q913 : (Jvm.Cond.lays "java/lang/ArrayIndexOutOfBoundsException" "java/lang/Throwable" "depth" "I") ∈ lw_all := lw_g (lw_at lw_m4 134 rfl) rfl
theorem q914 : (Jvm.Cond.lays "java/lang/ArrayIndexOutOfBoundsException" "java/lang/Throwable" "suppressedExceptions" "Ljava/util/List;") ∈ lw_all := lw_g (lw_at lw_m4 135 rfl) rfl
theorem q915 : (Jvm.Cond.superclass "java/lang/ArrayIndexOutOfBoundsException" "java/lang/IndexOutOfBoundsException") ∈ lw_all := lw_g (lw_at lw_m4 136 rfl) rfl
theorem q916 : (Jvm.Cond.castable "java/lang/ArrayIndexOutOfBoundsException" "java/lang/ArrayIndexOutOfBoundsException") ∈ lw_tbl := lw_at lw_m4 137 rfl
theorem q919 : (Jvm.Cond.selects "java/lang/ArrayIndexOutOfBoundsException" ({ cls := "java/lang/Throwable", name := "fillInStackTrace", desc := "(I)Ljava/lang/Throwable;" } : Jvm.MethodName) ({ cls := "java/lang/Throwable", name := "fillInStackTrace", desc := "(I)Ljava/lang/Throwable;" } : Jvm.MethodName)) ∈ lw_all := lw_g (lw_at lw_m4 140 rfl) rfl
theorem q1378 : (Jvm.Cond.castable "java/lang/ArrayIndexOutOfBoundsException" "java/lang/IndexOutOfBoundsException") ∈ lw_tbl := lw_at lw_m6 119 rfl
theorem in_J12 : ∀ w ∈ wsJ120, w ∈ lw_all := lw_in wsJ120 [909, 910, 911, 912, 913, 914] (by decide +kernel) (by decide +kernel)
/-! java/lang/ClassCastException -/
set_option maxRecDepth 100000
def RJ13 : String := "java/lang/ClassCastException"
def TJ13 : u_T := fun k => match k with
  | 0 => ("java/lang/Throwable", "backtrace", "Ljava/lang/Object;", false)
  | 1 => ("java/lang/Throwable", "detailMessage", "Ljava/lang/String;", false)
  | 2 => ("java/lang/Throwable", "cause", "Ljava/lang/Throwable;", false)
  | 3 => ("java/lang/Throwable", "stackTrace", "[Ljava/lang/StackTraceElement;", false)
  | 4 => ("java/lang/Throwable", "depth", "I", false)
  | _ => ("java/lang/Throwable", "suppressedExceptions", "Ljava/util/List;", false)
def tyJ13 : Nat → FieldType := fun k => match k with
  | 0 => .object "java/lang/Object"
  | 1 => .object "java/lang/String"
  | 2 => .object "java/lang/Throwable"
  | 3 => .array (.object "java/lang/StackTraceElement")
  | 4 => .int
  | _ => .object "java/util/List"
abbrev wsJ130 : List Cond := u_ws RJ13 TJ13 6
theorem nmJ13 : ∀ a, a < 6 → ∀ b, b < 6 → a ≠ b → (TJ13 a).2.1 ≠ (TJ13 b).2.1 := by decide +kernel
theorem tyJ13_ok : ∀ k, k < 6 → parseFieldDescriptor (TJ13 k).2.2.1 = some (tyJ13 k) := by decide +kernel
abbrev cJ13_init : ByteArray := prog_13_method_2_code
def yJ13_init : MethodName := ⟨RJ13, "<init>", "(Ljava/lang/String;)V"⟩
def dkwJ13_init_0 : List UInt8 := [42, 43, 183, 0, 7, 177]
abbrev dktJ13_init_0 : List UInt8 := dkwJ13_init_0 ++ []
theorem dksJ13_init_0 : cJ13_init.data.toList.drop 0 = dktJ13_init_0 := by decide +kernel
theorem dJ13_init_0 : decode cJ13_init 0 = .ok (.aload_n 0, 1) := dk_42 (dk_at dksJ13_init_0 0 rfl rfl)
theorem dJ13_init_1 : decode cJ13_init 1 = .ok (.aload_n 1, 1) := dk_43 (dk_at dksJ13_init_0 1 rfl rfl)
theorem dJ13_init_2 : decode cJ13_init 2 = .ok (.invokespecial 7, 3) := dk_183 0 7 (dk_at dksJ13_init_0 2 rfl rfl)
theorem dJ13_init_5 : decode cJ13_init 5 = .ok (.return_, 1) := dk_177 (dk_at dksJ13_init_0 5 rfl rfl)
theorem q84 : (Jvm.Cond.initialized "java/lang/ClassCastException") ∈ lw_all := lw_g (lw_at lw_m1 25 rfl) rfl
theorem q324 : (Jvm.Cond.selects "java/lang/ClassCastException" ({ cls := "java/lang/Throwable", name := "fillInStackTrace", desc := "()Ljava/lang/Throwable;" } : Jvm.MethodName) ({ cls := "java/lang/Throwable", name := "fillInStackTrace", desc := "()Ljava/lang/Throwable;" } : Jvm.MethodName)) ∈ lw_all := lw_g (lw_at lw_m2 25 rfl) rfl
theorem q928 : (Jvm.Cond.instantiable "java/lang/ClassCastException" (6 : Nat)) ∈ lw_all := lw_g (lw_at lw_m4 149 rfl) rfl
theorem q929 : (Jvm.Cond.instanceMethod ({ cls := "java/lang/ClassCastException", name := "<init>", desc := "(Ljava/lang/String;)V" } : Jvm.MethodName)) ∈ lw_all := lw_g (lw_at lw_m4 150 rfl) rfl
theorem q930 : (Jvm.Cond.code ({ cls := "java/lang/ClassCastException", name := "<init>", desc := "(Ljava/lang/String;)V" } : Jvm.MethodName) prog_13_method_2_code (2 : Nat) (Option.none : Option Jvm.ClassFile.FieldType)) ∈ lw_all := lw_g (lw_at lw_m4 151 rfl) rfl
theorem q931 : (Jvm.Cond.methodLink "java/lang/ClassCastException" (7 : Nat) ({ cls := "java/lang/RuntimeException", name := "<init>", desc := "(Ljava/lang/String;)V" } : Jvm.MethodName)) ∈ lw_all := lw_g (lw_at lw_m4 152 rfl) rfl
theorem q932 : (Jvm.Cond.lays "java/lang/ClassCastException" "java/lang/Throwable" "backtrace" "Ljava/lang/Object;") ∈ lw_all := lw_g (lw_at lw_m4 153 rfl) rfl
theorem q933 : (Jvm.Cond.lays "java/lang/ClassCastException" "java/lang/Throwable" "detailMessage" "Ljava/lang/String;") ∈ lw_all := lw_g (lw_at lw_m4 154 rfl) rfl
theorem q934 : (Jvm.Cond.lays "java/lang/ClassCastException" "java/lang/Throwable" "cause" "Ljava/lang/Throwable;") ∈ lw_all := lw_g (lw_at lw_m4 155 rfl) rfl
theorem q935 : (Jvm.Cond.lays "java/lang/ClassCastException" "java/lang/Throwable" "stackTrace" "[Ljava/lang/StackTraceElement;") ∈ lw_all := lw_g (lw_at lw_m4 156 rfl) rfl
theorem q936 : (Jvm.Cond.lays "java/lang/ClassCastException" "java/lang/Throwable" "depth" "I") ∈ lw_all := lw_g (lw_at lw_m4 157 rfl) rfl
theorem q937 : (Jvm.Cond.lays "java/lang/ClassCastException" "java/lang/Throwable" "suppressedExceptions" "Ljava/util/List;") ∈ lw_all := lw_g (lw_at lw_m4 158 rfl) rfl
theorem q938 : (Jvm.Cond.superclass "java/lang/ClassCastException" "java/lang/RuntimeException") ∈ lw_all := lw_g (lw_at lw_m4 159 rfl) rfl
theorem q939 : (Jvm.Cond.castable "java/lang/ClassCastException" "java/lang/ClassCastException") ∈ lw_tbl := lw_at lw_m4 160 rfl
theorem q940 : (Jvm.Cond.selects "java/lang/ClassCastException" ({ cls := "java/lang/Throwable", name := "fillInStackTrace", desc := "(I)Ljava/lang/Throwable;" } : Jvm.MethodName) ({ cls := "java/lang/Throwable", name := "fillInStackTrace", desc := "(I)Ljava/lang/Throwable;" } : Jvm.MethodName)) ∈ lw_all := lw_g (lw_at lw_m4 161 rfl) rfl
theorem in_J13 : ∀ w ∈ wsJ130, w ∈ lw_all := lw_in wsJ130 [932, 933, 934, 935, 936, 937] (by decide +kernel) (by decide +kernel)
/-! java/lang/Object -/
set_option maxRecDepth 100000
def RJ14 : String := "java/lang/Object"
abbrev cJ14_init : ByteArray := object_method_1_code
def yJ14_init : MethodName := ⟨RJ14, "<init>", "()V"⟩
theorem dJ14_init_0 : decode cJ14_init 0 = .ok (.return_, 1) := by decide +kernel
theorem q91 : (Jvm.Cond.instanceMethod ({ cls := "java/lang/Object", name := "<init>", desc := "()V" } : Jvm.MethodName)) ∈ lw_all := lw_g (lw_at lw_m1 32 rfl) rfl
theorem q92 : (Jvm.Cond.code ({ cls := "java/lang/Object", name := "<init>", desc := "()V" } : Jvm.MethodName) object_method_1_code (1 : Nat) (Option.none : Option Jvm.ClassFile.FieldType)) ∈ lw_all := lw_g (lw_at lw_m1 33 rfl) rfl
/-! java/lang/String -/
set_option maxRecDepth 100000
def RJ2 : String := "java/lang/String"
def TJ2 : u_T := fun k => match k with
  | 0 => ("java/lang/String", "value", "[B", true)
  | _ => ("java/lang/String", "coder", "B", true)
def tyJ2 : Nat → FieldType := fun k => match k with
  | 0 => .array .byte
  | _ => .byte
abbrev wsJ20 : List Cond := u_ws RJ2 TJ2 2
theorem nmJ2 : ∀ a, a < 2 → ∀ b, b < 2 → a ≠ b → (TJ2 a).2.1 ≠ (TJ2 b).2.1 := by decide +kernel
theorem tyJ2_ok : ∀ k, k < 2 → parseFieldDescriptor (TJ2 k).2.2.1 = some (tyJ2 k) := by decide +kernel
abbrev cJ2_length : ByteArray := prog_21_method_54_code
def yJ2_length : MethodName := ⟨RJ2, "length", "()I"⟩
def dkwJ2_length_0 : List UInt8 := [42, 180, 0, 9, 190, 42, 182, 1, 79, 122, 172]
abbrev dktJ2_length_0 : List UInt8 := dkwJ2_length_0 ++ []
theorem dksJ2_length_0 : cJ2_length.data.toList.drop 0 = dktJ2_length_0 := by decide +kernel
theorem dJ2_length_0 : decode cJ2_length 0 = .ok (.aload_n 0, 1) := dk_42 (dk_at dksJ2_length_0 0 rfl rfl)
theorem dJ2_length_1 : decode cJ2_length 1 = .ok (.getfield 9, 3) := dk_180 0 9 (dk_at dksJ2_length_0 1 rfl rfl)
theorem dJ2_length_4 : decode cJ2_length 4 = .ok (.arraylength, 1) := dk_190 (dk_at dksJ2_length_0 4 rfl rfl)
theorem dJ2_length_5 : decode cJ2_length 5 = .ok (.aload_n 0, 1) := dk_42 (dk_at dksJ2_length_0 5 rfl rfl)
theorem dJ2_length_6 : decode cJ2_length 6 = .ok (.invokevirtual 335, 3) := dk_182 1 79 (dk_at dksJ2_length_0 6 rfl rfl)
theorem dJ2_length_9 : decode cJ2_length 9 = .ok (.ishr, 1) := dk_122 (dk_at dksJ2_length_0 9 rfl rfl)
theorem dJ2_length_10 : decode cJ2_length 10 = .ok (.ireturn, 1) := dk_172 (dk_at dksJ2_length_0 10 rfl rfl)
abbrev cJ2_coder : ByteArray := prog_21_method_152_code
def yJ2_coder : MethodName := ⟨RJ2, "coder", "()B"⟩
def dkwJ2_coder_0 : List UInt8 := [178, 0, 38, 153, 0, 10, 42, 180, 0, 15, 167, 0, 4, 4, 172]
abbrev dktJ2_coder_0 : List UInt8 := dkwJ2_coder_0 ++ []
theorem dksJ2_coder_0 : cJ2_coder.data.toList.drop 0 = dktJ2_coder_0 := by decide +kernel
theorem dJ2_coder_0 : decode cJ2_coder 0 = .ok (.getstatic 38, 3) := dk_178 0 38 (dk_at dksJ2_coder_0 0 rfl rfl)
theorem dJ2_coder_3 : decode cJ2_coder 3 = .ok (.ifCond .eq 10, 3) := dk_153 0 10 (dk_at dksJ2_coder_0 3 rfl rfl)
theorem dJ2_coder_6 : decode cJ2_coder 6 = .ok (.aload_n 0, 1) := dk_42 (dk_at dksJ2_coder_0 6 rfl rfl)
theorem dJ2_coder_7 : decode cJ2_coder 7 = .ok (.getfield 15, 3) := dk_180 0 15 (dk_at dksJ2_coder_0 7 rfl rfl)
theorem dJ2_coder_10 : decode cJ2_coder 10 = .ok (.goto 4, 3) := dk_167 0 4 (dk_at dksJ2_coder_0 10 rfl rfl)
theorem dJ2_coder_13 : decode cJ2_coder 13 = .ok (.iconst 1, 1) := dk_4 (dk_at dksJ2_coder_0 13 rfl rfl)
theorem dJ2_coder_14 : decode cJ2_coder 14 = .ok (.ireturn, 1) := dk_172 (dk_at dksJ2_coder_0 14 rfl rfl)
abbrev cJ2_charAt : ByteArray := prog_21_method_56_code
def yJ2_charAt : MethodName := ⟨RJ2, "charAt", "(I)C"⟩
def dkwJ2_charAt_1 : List UInt8 := [172]
abbrev dktJ2_charAt_1 : List UInt8 := dkwJ2_charAt_1 ++ []
def dkwJ2_charAt_0 : List UInt8 := [42, 182, 1, 236, 153, 0, 12, 42, 180, 0, 9, 27, 184, 1, 239, 172, 42, 180, 0, 9, 27, 184, 1, 242]
abbrev dktJ2_charAt_0 : List UInt8 := dkwJ2_charAt_0 ++ dktJ2_charAt_1
theorem dksJ2_charAt_0 : cJ2_charAt.data.toList.drop 0 = dktJ2_charAt_0 := by decide +kernel
theorem dksJ2_charAt_1 : cJ2_charAt.data.toList.drop 24 = dktJ2_charAt_1 := dk_seg dksJ2_charAt_0 24 rfl rfl
theorem dJ2_charAt_0 : decode cJ2_charAt 0 = .ok (.aload_n 0, 1) := dk_42 (dk_at dksJ2_charAt_0 0 rfl rfl)
theorem dJ2_charAt_1 : decode cJ2_charAt 1 = .ok (.invokevirtual 492, 3) := dk_182 1 236 (dk_at dksJ2_charAt_0 1 rfl rfl)
theorem dJ2_charAt_4 : decode cJ2_charAt 4 = .ok (.ifCond .eq 12, 3) := dk_153 0 12 (dk_at dksJ2_charAt_0 4 rfl rfl)
theorem dJ2_charAt_7 : decode cJ2_charAt 7 = .ok (.aload_n 0, 1) := dk_42 (dk_at dksJ2_charAt_0 7 rfl rfl)
theorem dJ2_charAt_8 : decode cJ2_charAt 8 = .ok (.getfield 9, 3) := dk_180 0 9 (dk_at dksJ2_charAt_0 8 rfl rfl)
theorem dJ2_charAt_11 : decode cJ2_charAt 11 = .ok (.iload_n 1, 1) := dk_27 (dk_at dksJ2_charAt_0 11 rfl rfl)
theorem dJ2_charAt_12 : decode cJ2_charAt 12 = .ok (.invokestatic 495, 3) := dk_184 1 239 (dk_at dksJ2_charAt_0 12 rfl rfl)
theorem dJ2_charAt_15 : decode cJ2_charAt 15 = .ok (.ireturn, 1) := dk_172 (dk_at dksJ2_charAt_0 15 rfl rfl)
theorem dJ2_charAt_16 : decode cJ2_charAt 16 = .ok (.aload_n 0, 1) := dk_42 (dk_at dksJ2_charAt_0 16 rfl rfl)
theorem dJ2_charAt_17 : decode cJ2_charAt 17 = .ok (.getfield 9, 3) := dk_180 0 9 (dk_at dksJ2_charAt_0 17 rfl rfl)
theorem dJ2_charAt_20 : decode cJ2_charAt 20 = .ok (.iload_n 1, 1) := dk_27 (dk_at dksJ2_charAt_0 20 rfl rfl)
theorem dJ2_charAt_21 : decode cJ2_charAt 21 = .ok (.invokestatic 498, 3) := dk_184 1 242 (dk_at dksJ2_charAt_0 21 rfl rfl)
theorem dJ2_charAt_24 : decode cJ2_charAt 24 = .ok (.ireturn, 1) := dk_172 (dk_at dksJ2_charAt_1 0 rfl rfl)
abbrev cJ2_isLatin1 : ByteArray := prog_21_method_154_code
def yJ2_isLatin1 : MethodName := ⟨RJ2, "isLatin1", "()Z"⟩
def dkwJ2_isLatin1_0 : List UInt8 := [178, 0, 38, 153, 0, 14, 42, 180, 0, 15, 154, 0, 7, 4, 167, 0, 4, 3, 172]
abbrev dktJ2_isLatin1_0 : List UInt8 := dkwJ2_isLatin1_0 ++ []
theorem dksJ2_isLatin1_0 : cJ2_isLatin1.data.toList.drop 0 = dktJ2_isLatin1_0 := by decide +kernel
theorem dJ2_isLatin1_0 : decode cJ2_isLatin1 0 = .ok (.getstatic 38, 3) := dk_178 0 38 (dk_at dksJ2_isLatin1_0 0 rfl rfl)
theorem dJ2_isLatin1_3 : decode cJ2_isLatin1 3 = .ok (.ifCond .eq 14, 3) := dk_153 0 14 (dk_at dksJ2_isLatin1_0 3 rfl rfl)
theorem dJ2_isLatin1_6 : decode cJ2_isLatin1 6 = .ok (.aload_n 0, 1) := dk_42 (dk_at dksJ2_isLatin1_0 6 rfl rfl)
theorem dJ2_isLatin1_7 : decode cJ2_isLatin1 7 = .ok (.getfield 15, 3) := dk_180 0 15 (dk_at dksJ2_isLatin1_0 7 rfl rfl)
theorem dJ2_isLatin1_10 : decode cJ2_isLatin1 10 = .ok (.ifCond .ne 7, 3) := dk_154 0 7 (dk_at dksJ2_isLatin1_0 10 rfl rfl)
theorem dJ2_isLatin1_13 : decode cJ2_isLatin1 13 = .ok (.iconst 1, 1) := dk_4 (dk_at dksJ2_isLatin1_0 13 rfl rfl)
theorem dJ2_isLatin1_14 : decode cJ2_isLatin1 14 = .ok (.goto 4, 3) := dk_167 0 4 (dk_at dksJ2_isLatin1_0 14 rfl rfl)
theorem dJ2_isLatin1_17 : decode cJ2_isLatin1 17 = .ok (.iconst 0, 1) := dk_3 (dk_at dksJ2_isLatin1_0 17 rfl rfl)
theorem dJ2_isLatin1_18 : decode cJ2_isLatin1 18 = .ok (.ireturn, 1) := dk_172 (dk_at dksJ2_isLatin1_0 18 rfl rfl)
abbrev cJ2_checkIndex : ByteArray := prog_21_method_155_code
def yJ2_checkIndex : MethodName := ⟨RJ2, "checkIndex", "(II)V"⟩
def dkwJ2_checkIndex_0 : List UInt8 := [26, 27, 178, 4, 29, 184, 4, 35, 87, 177]
abbrev dktJ2_checkIndex_0 : List UInt8 := dkwJ2_checkIndex_0 ++ []
theorem dksJ2_checkIndex_0 : cJ2_checkIndex.data.toList.drop 0 = dktJ2_checkIndex_0 := by decide +kernel
theorem dJ2_checkIndex_0 : decode cJ2_checkIndex 0 = .ok (.iload_n 0, 1) := dk_26 (dk_at dksJ2_checkIndex_0 0 rfl rfl)
theorem dJ2_checkIndex_1 : decode cJ2_checkIndex 1 = .ok (.iload_n 1, 1) := dk_27 (dk_at dksJ2_checkIndex_0 1 rfl rfl)
theorem dJ2_checkIndex_2 : decode cJ2_checkIndex 2 = .ok (.getstatic 1053, 3) := dk_178 4 29 (dk_at dksJ2_checkIndex_0 2 rfl rfl)
theorem dJ2_checkIndex_5 : decode cJ2_checkIndex 5 = .ok (.invokestatic 1059, 3) := dk_184 4 35 (dk_at dksJ2_checkIndex_0 5 rfl rfl)
theorem dJ2_checkIndex_8 : decode cJ2_checkIndex 8 = .ok (.pop, 1) := dk_87 (dk_at dksJ2_checkIndex_0 8 rfl rfl)
theorem dJ2_checkIndex_9 : decode cJ2_checkIndex 9 = .ok (.return_, 1) := dk_177 (dk_at dksJ2_checkIndex_0 9 rfl rfl)
theorem q72 : (Jvm.Cond.initialized "java/lang/String") ∈ lw_all := lw_g (lw_at lw_m1 13 rfl) rfl
theorem q426 : (Jvm.Cond.instanceMethod ({ cls := "java/lang/String", name := "length", desc := "()I" } : Jvm.MethodName)) ∈ lw_all := lw_g (lw_at lw_m2 127 rfl) rfl
theorem q427 : (Jvm.Cond.selects "java/lang/String" ({ cls := "java/lang/String", name := "length", desc := "()I" } : Jvm.MethodName) ({ cls := "java/lang/String", name := "length", desc := "()I" } : Jvm.MethodName)) ∈ lw_all := lw_g (lw_at lw_m2 128 rfl) rfl
theorem q428 : (Jvm.Cond.code ({ cls := "java/lang/String", name := "length", desc := "()I" } : Jvm.MethodName) prog_21_method_54_code (1 : Nat) (Option.some Jvm.ClassFile.FieldType.int)) ∈ lw_all := lw_g (lw_at lw_m2 129 rfl) rfl
theorem q429 : (Jvm.Cond.methodLink "java/lang/String" (335 : Nat) ({ cls := "java/lang/String", name := "coder", desc := "()B" } : Jvm.MethodName)) ∈ lw_all := lw_g (lw_at lw_m2 130 rfl) rfl
theorem q430 : (Jvm.Cond.instanceMethod ({ cls := "java/lang/String", name := "coder", desc := "()B" } : Jvm.MethodName)) ∈ lw_all := lw_g (lw_at lw_m2 131 rfl) rfl
theorem q431 : (Jvm.Cond.selects "java/lang/String" ({ cls := "java/lang/String", name := "coder", desc := "()B" } : Jvm.MethodName) ({ cls := "java/lang/String", name := "coder", desc := "()B" } : Jvm.MethodName)) ∈ lw_all := lw_g (lw_at lw_m2 132 rfl) rfl
theorem q432 : (Jvm.Cond.code ({ cls := "java/lang/String", name := "coder", desc := "()B" } : Jvm.MethodName) prog_21_method_152_code (1 : Nat) (Option.some Jvm.ClassFile.FieldType.byte)) ∈ lw_all := lw_g (lw_at lw_m2 133 rfl) rfl
theorem q433 : (Jvm.Cond.fieldLink "java/lang/String" (38 : Nat) "java/lang/String" "COMPACT_STRINGS" "Z") ∈ lw_all := lw_g (lw_at lw_m2 134 rfl) rfl
theorem q434 : (Jvm.Cond.laysStatic "java/lang/String" "COMPACT_STRINGS" "Z") ∈ lw_tbl := lw_at lw_m2 135 rfl
theorem q436 : (Jvm.Cond.instanceMethod ({ cls := "java/lang/String", name := "charAt", desc := "(I)C" } : Jvm.MethodName)) ∈ lw_all := lw_g (lw_at lw_m2 137 rfl) rfl
theorem q437 : (Jvm.Cond.selects "java/lang/String" ({ cls := "java/lang/String", name := "charAt", desc := "(I)C" } : Jvm.MethodName) ({ cls := "java/lang/String", name := "charAt", desc := "(I)C" } : Jvm.MethodName)) ∈ lw_all := lw_g (lw_at lw_m2 138 rfl) rfl
theorem q438 : (Jvm.Cond.code ({ cls := "java/lang/String", name := "charAt", desc := "(I)C" } : Jvm.MethodName) prog_21_method_56_code (2 : Nat) (Option.some Jvm.ClassFile.FieldType.char)) ∈ lw_all := lw_g (lw_at lw_m2 139 rfl) rfl
theorem q439 : (Jvm.Cond.methodLink "java/lang/String" (492 : Nat) ({ cls := "java/lang/String", name := "isLatin1", desc := "()Z" } : Jvm.MethodName)) ∈ lw_all := lw_g (lw_at lw_m2 140 rfl) rfl
theorem q440 : (Jvm.Cond.instanceMethod ({ cls := "java/lang/String", name := "isLatin1", desc := "()Z" } : Jvm.MethodName)) ∈ lw_all := lw_g (lw_at lw_m2 141 rfl) rfl
theorem q441 : (Jvm.Cond.selects "java/lang/String" ({ cls := "java/lang/String", name := "isLatin1", desc := "()Z" } : Jvm.MethodName) ({ cls := "java/lang/String", name := "isLatin1", desc := "()Z" } : Jvm.MethodName)) ∈ lw_all := lw_g (lw_at lw_m2 142 rfl) rfl
theorem q442 : (Jvm.Cond.code ({ cls := "java/lang/String", name := "isLatin1", desc := "()Z" } : Jvm.MethodName) prog_21_method_154_code (1 : Nat) (Option.some Jvm.ClassFile.FieldType.boolean)) ∈ lw_all := lw_g (lw_at lw_m2 143 rfl) rfl
theorem q443 : (Jvm.Cond.methodLink "java/lang/String" (495 : Nat) ({ cls := "java/lang/StringLatin1", name := "charAt", desc := "([BI)C" } : Jvm.MethodName)) ∈ lw_all := lw_g (lw_at lw_m2 144 rfl) rfl
theorem q447 : (Jvm.Cond.static ({ cls := "java/lang/String", name := "checkIndex", desc := "(II)V" } : Jvm.MethodName)) ∈ lw_all := lw_g (lw_at lw_m2 148 rfl) rfl
theorem q448 : (Jvm.Cond.code ({ cls := "java/lang/String", name := "checkIndex", desc := "(II)V" } : Jvm.MethodName) prog_21_method_155_code (2 : Nat) (Option.none : Option Jvm.ClassFile.FieldType)) ∈ lw_all := lw_g (lw_at lw_m2 149 rfl) rfl
theorem q449 : (Jvm.Cond.fieldLink "java/lang/String" (1053 : Nat) "jdk/internal/util/Preconditions" "SIOOBE_FORMATTER" "Ljava/util/function/BiFunction;") ∈ lw_all := lw_g (lw_at lw_m2 150 rfl) rfl
theorem q451 : (Jvm.Cond.methodLink "java/lang/String" (1059 : Nat) ({ cls := "jdk/internal/util/Preconditions", name := "checkIndex", desc := "(IILjava/util/function/BiFunction;)I" } : Jvm.MethodName)) ∈ lw_all := lw_g (lw_at lw_m2 152 rfl) rfl
theorem q454 : (Jvm.Cond.methodLink "java/lang/String" (498 : Nat) ({ cls := "java/lang/StringUTF16", name := "charAt", desc := "([BI)C" } : Jvm.MethodName)) ∈ lw_all := lw_g (lw_at lw_m2 155 rfl) rfl
theorem q862 : (Jvm.Cond.instantiable "java/lang/String" (4 : Nat)) ∈ lw_all := lw_g (lw_at lw_m4 83 rfl) rfl
theorem q863 : (Jvm.Cond.laysFinal "java/lang/String" "java/lang/String" "value" "[B") ∈ lw_all := lw_g (lw_at lw_m4 84 rfl) rfl
theorem q864 : (Jvm.Cond.soleField "java/lang/String" "value") ∈ lw_all := lw_g (lw_at lw_m4 85 rfl) rfl
theorem q865 : (Jvm.Cond.laysFinal "java/lang/String" "java/lang/String" "coder" "B") ∈ lw_all := lw_g (lw_at lw_m4 86 rfl) rfl
theorem q866 : (Jvm.Cond.soleField "java/lang/String" "coder") ∈ lw_all := lw_g (lw_at lw_m4 87 rfl) rfl
theorem q1382 : (Jvm.Cond.fieldLink "java/lang/String" (9 : Nat) "java/lang/String" "value" "[B") ∈ lw_all := lw_g (lw_at lw_m6 123 rfl) rfl
theorem q1383 : (Jvm.Cond.fieldLink "java/lang/String" (15 : Nat) "java/lang/String" "coder" "B") ∈ lw_all := lw_g (lw_at lw_m6 124 rfl) rfl
theorem in_J2 : ∀ w ∈ wsJ20, w ∈ lw_all := lw_in wsJ20 [863, 865] (by decide +kernel) (by decide +kernel)
/-! java/lang/StringLatin1 -/
set_option maxRecDepth 100000
def RJ3 : String := "java/lang/StringLatin1"
abbrev cJ3_charAt : ByteArray := prog_22_method_2_code
def yJ3_charAt : MethodName := ⟨RJ3, "charAt", "([BI)C"⟩
def dkwJ3_charAt_0 : List UInt8 := [27, 42, 190, 184, 0, 9, 42, 27, 51, 17, 0, 255, 126, 146, 172]
abbrev dktJ3_charAt_0 : List UInt8 := dkwJ3_charAt_0 ++ []
theorem dksJ3_charAt_0 : cJ3_charAt.data.toList.drop 0 = dktJ3_charAt_0 := by decide +kernel
theorem dJ3_charAt_0 : decode cJ3_charAt 0 = .ok (.iload_n 1, 1) := dk_27 (dk_at dksJ3_charAt_0 0 rfl rfl)
theorem dJ3_charAt_1 : decode cJ3_charAt 1 = .ok (.aload_n 0, 1) := dk_42 (dk_at dksJ3_charAt_0 1 rfl rfl)
theorem dJ3_charAt_2 : decode cJ3_charAt 2 = .ok (.arraylength, 1) := dk_190 (dk_at dksJ3_charAt_0 2 rfl rfl)
theorem dJ3_charAt_3 : decode cJ3_charAt 3 = .ok (.invokestatic 9, 3) := dk_184 0 9 (dk_at dksJ3_charAt_0 3 rfl rfl)
theorem dJ3_charAt_6 : decode cJ3_charAt 6 = .ok (.aload_n 0, 1) := dk_42 (dk_at dksJ3_charAt_0 6 rfl rfl)
theorem dJ3_charAt_7 : decode cJ3_charAt 7 = .ok (.iload_n 1, 1) := dk_27 (dk_at dksJ3_charAt_0 7 rfl rfl)
theorem dJ3_charAt_8 : decode cJ3_charAt 8 = .ok (.baload, 1) := dk_51 (dk_at dksJ3_charAt_0 8 rfl rfl)
theorem dJ3_charAt_9 : decode cJ3_charAt 9 = .ok (.sipush 255, 3) := dk_17 0 255 (dk_at dksJ3_charAt_0 9 rfl rfl)
theorem dJ3_charAt_12 : decode cJ3_charAt 12 = .ok (.iand, 1) := dk_126 (dk_at dksJ3_charAt_0 12 rfl rfl)
theorem dJ3_charAt_13 : decode cJ3_charAt 13 = .ok (.i2c, 1) := dk_146 (dk_at dksJ3_charAt_0 13 rfl rfl)
theorem dJ3_charAt_14 : decode cJ3_charAt 14 = .ok (.ireturn, 1) := dk_172 (dk_at dksJ3_charAt_0 14 rfl rfl)
theorem q73 : (Jvm.Cond.initialized "java/lang/StringLatin1") ∈ lw_all := lw_g (lw_at lw_m1 14 rfl) rfl
theorem q444 : (Jvm.Cond.static ({ cls := "java/lang/StringLatin1", name := "charAt", desc := "([BI)C" } : Jvm.MethodName)) ∈ lw_all := lw_g (lw_at lw_m2 145 rfl) rfl
theorem q445 : (Jvm.Cond.code ({ cls := "java/lang/StringLatin1", name := "charAt", desc := "([BI)C" } : Jvm.MethodName) prog_22_method_2_code (2 : Nat) (Option.some Jvm.ClassFile.FieldType.char)) ∈ lw_all := lw_g (lw_at lw_m2 146 rfl) rfl
theorem q446 : (Jvm.Cond.methodLink "java/lang/StringLatin1" (9 : Nat) ({ cls := "java/lang/String", name := "checkIndex", desc := "(II)V" } : Jvm.MethodName)) ∈ lw_all := lw_g (lw_at lw_m2 147 rfl) rfl
/-! jdk/internal/util/Preconditions -/
set_option maxRecDepth 100000
def RJ4 : String := "jdk/internal/util/Preconditions"
abbrev cJ4_checkIndex : ByteArray := prog_26_method_11_code
def yJ4_checkIndex : MethodName := ⟨RJ4, "checkIndex", "(IILjava/util/function/BiFunction;)I"⟩
def dkwJ4_checkIndex_0 : List UInt8 := [26, 155, 0, 8, 26, 27, 161, 0, 10, 44, 26, 27, 184, 0, 95, 191, 26, 172]
abbrev dktJ4_checkIndex_0 : List UInt8 := dkwJ4_checkIndex_0 ++ []
theorem dksJ4_checkIndex_0 : cJ4_checkIndex.data.toList.drop 0 = dktJ4_checkIndex_0 := by decide +kernel
theorem dJ4_checkIndex_0 : decode cJ4_checkIndex 0 = .ok (.iload_n 0, 1) := dk_26 (dk_at dksJ4_checkIndex_0 0 rfl rfl)
theorem dJ4_checkIndex_1 : decode cJ4_checkIndex 1 = .ok (.ifCond .lt 8, 3) := dk_155 0 8 (dk_at dksJ4_checkIndex_0 1 rfl rfl)
theorem dJ4_checkIndex_4 : decode cJ4_checkIndex 4 = .ok (.iload_n 0, 1) := dk_26 (dk_at dksJ4_checkIndex_0 4 rfl rfl)
theorem dJ4_checkIndex_5 : decode cJ4_checkIndex 5 = .ok (.iload_n 1, 1) := dk_27 (dk_at dksJ4_checkIndex_0 5 rfl rfl)
theorem dJ4_checkIndex_6 : decode cJ4_checkIndex 6 = .ok (.if_icmp .lt 10, 3) := dk_161 0 10 (dk_at dksJ4_checkIndex_0 6 rfl rfl)
theorem dJ4_checkIndex_9 : decode cJ4_checkIndex 9 = .ok (.aload_n 2, 1) := dk_44 (dk_at dksJ4_checkIndex_0 9 rfl rfl)
theorem dJ4_checkIndex_10 : decode cJ4_checkIndex 10 = .ok (.iload_n 0, 1) := dk_26 (dk_at dksJ4_checkIndex_0 10 rfl rfl)
theorem dJ4_checkIndex_11 : decode cJ4_checkIndex 11 = .ok (.iload_n 1, 1) := dk_27 (dk_at dksJ4_checkIndex_0 11 rfl rfl)
theorem dJ4_checkIndex_12 : decode cJ4_checkIndex 12 = .ok (.invokestatic 95, 3) := dk_184 0 95 (dk_at dksJ4_checkIndex_0 12 rfl rfl)
theorem dJ4_checkIndex_15 : decode cJ4_checkIndex 15 = .ok (.athrow, 1) := dk_191 (dk_at dksJ4_checkIndex_0 15 rfl rfl)
theorem dJ4_checkIndex_16 : decode cJ4_checkIndex 16 = .ok (.iload_n 0, 1) := dk_26 (dk_at dksJ4_checkIndex_0 16 rfl rfl)
theorem dJ4_checkIndex_17 : decode cJ4_checkIndex 17 = .ok (.ireturn, 1) := dk_172 (dk_at dksJ4_checkIndex_0 17 rfl rfl)
theorem q74 : (Jvm.Cond.initialized "jdk/internal/util/Preconditions") ∈ lw_all := lw_g (lw_at lw_m1 15 rfl) rfl
theorem q450 : (Jvm.Cond.laysStatic "jdk/internal/util/Preconditions" "SIOOBE_FORMATTER" "Ljava/util/function/BiFunction;") ∈ lw_tbl := lw_at lw_m2 151 rfl
theorem q452 : (Jvm.Cond.static ({ cls := "jdk/internal/util/Preconditions", name := "checkIndex", desc := "(IILjava/util/function/BiFunction;)I" } : Jvm.MethodName)) ∈ lw_all := lw_g (lw_at lw_m2 153 rfl) rfl
theorem q453 : (Jvm.Cond.code ({ cls := "jdk/internal/util/Preconditions", name := "checkIndex", desc := "(IILjava/util/function/BiFunction;)I" } : Jvm.MethodName) prog_26_method_11_code (3 : Nat) (Option.some Jvm.ClassFile.FieldType.int)) ∈ lw_all := lw_g (lw_at lw_m2 154 rfl) rfl
/-! java/lang/StringUTF16 -/
set_option maxRecDepth 100000
def RJ5 : String := "java/lang/StringUTF16"
abbrev cJ5_charAt : ByteArray := prog_23_method_83_code
def yJ5_charAt : MethodName := ⟨RJ5, "charAt", "([BI)C"⟩
def dkwJ5_charAt_0 : List UInt8 := [27, 42, 184, 0, 67, 42, 27, 184, 0, 71, 172]
abbrev dktJ5_charAt_0 : List UInt8 := dkwJ5_charAt_0 ++ []
theorem dksJ5_charAt_0 : cJ5_charAt.data.toList.drop 0 = dktJ5_charAt_0 := by decide +kernel
theorem dJ5_charAt_0 : decode cJ5_charAt 0 = .ok (.iload_n 1, 1) := dk_27 (dk_at dksJ5_charAt_0 0 rfl rfl)
theorem dJ5_charAt_1 : decode cJ5_charAt 1 = .ok (.aload_n 0, 1) := dk_42 (dk_at dksJ5_charAt_0 1 rfl rfl)
theorem dJ5_charAt_2 : decode cJ5_charAt 2 = .ok (.invokestatic 67, 3) := dk_184 0 67 (dk_at dksJ5_charAt_0 2 rfl rfl)
theorem dJ5_charAt_5 : decode cJ5_charAt 5 = .ok (.aload_n 0, 1) := dk_42 (dk_at dksJ5_charAt_0 5 rfl rfl)
theorem dJ5_charAt_6 : decode cJ5_charAt 6 = .ok (.iload_n 1, 1) := dk_27 (dk_at dksJ5_charAt_0 6 rfl rfl)
theorem dJ5_charAt_7 : decode cJ5_charAt 7 = .ok (.invokestatic 71, 3) := dk_184 0 71 (dk_at dksJ5_charAt_0 7 rfl rfl)
theorem dJ5_charAt_10 : decode cJ5_charAt 10 = .ok (.ireturn, 1) := dk_172 (dk_at dksJ5_charAt_0 10 rfl rfl)
abbrev cJ5_checkIndex : ByteArray := prog_23_method_91_code
def yJ5_checkIndex : MethodName := ⟨RJ5, "checkIndex", "(I[B)V"⟩
def dkwJ5_checkIndex_0 : List UInt8 := [26, 43, 184, 0, 48, 184, 1, 158, 177]
abbrev dktJ5_checkIndex_0 : List UInt8 := dkwJ5_checkIndex_0 ++ []
theorem dksJ5_checkIndex_0 : cJ5_checkIndex.data.toList.drop 0 = dktJ5_checkIndex_0 := by decide +kernel
theorem dJ5_checkIndex_0 : decode cJ5_checkIndex 0 = .ok (.iload_n 0, 1) := dk_26 (dk_at dksJ5_checkIndex_0 0 rfl rfl)
theorem dJ5_checkIndex_1 : decode cJ5_checkIndex 1 = .ok (.aload_n 1, 1) := dk_43 (dk_at dksJ5_checkIndex_0 1 rfl rfl)
theorem dJ5_checkIndex_2 : decode cJ5_checkIndex 2 = .ok (.invokestatic 48, 3) := dk_184 0 48 (dk_at dksJ5_checkIndex_0 2 rfl rfl)
theorem dJ5_checkIndex_5 : decode cJ5_checkIndex 5 = .ok (.invokestatic 414, 3) := dk_184 1 158 (dk_at dksJ5_checkIndex_0 5 rfl rfl)
theorem dJ5_checkIndex_8 : decode cJ5_checkIndex 8 = .ok (.return_, 1) := dk_177 (dk_at dksJ5_checkIndex_0 8 rfl rfl)
abbrev cJ5_length : ByteArray := prog_23_method_6_code
def yJ5_length : MethodName := ⟨RJ5, "length", "([B)I"⟩
def dkwJ5_length_0 : List UInt8 := [42, 190, 4, 122, 172]
abbrev dktJ5_length_0 : List UInt8 := dkwJ5_length_0 ++ []
theorem dksJ5_length_0 : cJ5_length.data.toList.drop 0 = dktJ5_length_0 := by decide +kernel
theorem dJ5_length_0 : decode cJ5_length 0 = .ok (.aload_n 0, 1) := dk_42 (dk_at dksJ5_length_0 0 rfl rfl)
theorem dJ5_length_1 : decode cJ5_length 1 = .ok (.arraylength, 1) := dk_190 (dk_at dksJ5_length_0 1 rfl rfl)
theorem dJ5_length_2 : decode cJ5_length 2 = .ok (.iconst 1, 1) := dk_4 (dk_at dksJ5_length_0 2 rfl rfl)
theorem dJ5_length_3 : decode cJ5_length 3 = .ok (.ishr, 1) := dk_122 (dk_at dksJ5_length_0 3 rfl rfl)
theorem dJ5_length_4 : decode cJ5_length 4 = .ok (.ireturn, 1) := dk_172 (dk_at dksJ5_length_0 4 rfl rfl)
abbrev cJ5_getChar : ByteArray := prog_23_method_5_code
def yJ5_getChar : MethodName := ⟨RJ5, "getChar", "([BI)C"⟩
def dkwJ5_getChar_2 : List UInt8 := [51, 17, 0, 255, 126, 178, 0, 63, 120, 128, 146, 172]
abbrev dktJ5_getChar_2 : List UInt8 := dkwJ5_getChar_2 ++ []
def dkwJ5_getChar_1 : List UInt8 := [183, 0, 56, 191, 27, 4, 120, 60, 42, 27, 132, 1, 1, 51, 17, 0, 255, 126, 178, 0, 59, 120, 42, 27]
abbrev dktJ5_getChar_1 : List UInt8 := dkwJ5_getChar_1 ++ dktJ5_getChar_2
def dkwJ5_getChar_0 : List UInt8 := [178, 0, 44, 154, 0, 25, 27, 155, 0, 11, 27, 42, 184, 0, 48, 161, 0, 13, 187, 0, 52, 89, 18, 54]
abbrev dktJ5_getChar_0 : List UInt8 := dkwJ5_getChar_0 ++ dktJ5_getChar_1
theorem dksJ5_getChar_0 : cJ5_getChar.data.toList.drop 0 = dktJ5_getChar_0 := by decide +kernel
theorem dksJ5_getChar_1 : cJ5_getChar.data.toList.drop 24 = dktJ5_getChar_1 := dk_seg dksJ5_getChar_0 24 rfl rfl
theorem dksJ5_getChar_2 : cJ5_getChar.data.toList.drop 48 = dktJ5_getChar_2 := dk_seg dksJ5_getChar_1 24 rfl rfl
theorem dJ5_getChar_0 : decode cJ5_getChar 0 = .ok (.getstatic 44, 3) := dk_178 0 44 (dk_at dksJ5_getChar_0 0 rfl rfl)
theorem dJ5_getChar_3 : decode cJ5_getChar 3 = .ok (.ifCond .ne 25, 3) := dk_154 0 25 (dk_at dksJ5_getChar_0 3 rfl rfl)
theorem dJ5_getChar_6 : decode cJ5_getChar 6 = .ok (.iload_n 1, 1) := dk_27 (dk_at dksJ5_getChar_0 6 rfl rfl)
theorem dJ5_getChar_7 : decode cJ5_getChar 7 = .ok (.ifCond .lt 11, 3) := dk_155 0 11 (dk_at dksJ5_getChar_0 7 rfl rfl)
theorem dJ5_getChar_10 : decode cJ5_getChar 10 = .ok (.iload_n 1, 1) := dk_27 (dk_at dksJ5_getChar_0 10 rfl rfl)
theorem dJ5_getChar_11 : decode cJ5_getChar 11 = .ok (.aload_n 0, 1) := dk_42 (dk_at dksJ5_getChar_0 11 rfl rfl)
theorem dJ5_getChar_12 : decode cJ5_getChar 12 = .ok (.invokestatic 48, 3) := dk_184 0 48 (dk_at dksJ5_getChar_0 12 rfl rfl)
theorem dJ5_getChar_15 : decode cJ5_getChar 15 = .ok (.if_icmp .lt 13, 3) := dk_161 0 13 (dk_at dksJ5_getChar_0 15 rfl rfl)
theorem dJ5_getChar_18 : decode cJ5_getChar 18 = .ok (.new 52, 3) := dk_187 0 52 (dk_at dksJ5_getChar_0 18 rfl rfl)
theorem dJ5_getChar_21 : decode cJ5_getChar 21 = .ok (.dup, 1) := dk_89 (dk_at dksJ5_getChar_0 21 rfl rfl)
theorem dJ5_getChar_22 : decode cJ5_getChar 22 = .ok (.ldc 54, 2) := dk_18 54 (dk_at dksJ5_getChar_0 22 rfl rfl)
theorem dJ5_getChar_24 : decode cJ5_getChar 24 = .ok (.invokespecial 56, 3) := dk_183 0 56 (dk_at dksJ5_getChar_1 0 rfl rfl)
theorem dJ5_getChar_27 : decode cJ5_getChar 27 = .ok (.athrow, 1) := dk_191 (dk_at dksJ5_getChar_1 3 rfl rfl)
theorem dJ5_getChar_28 : decode cJ5_getChar 28 = .ok (.iload_n 1, 1) := dk_27 (dk_at dksJ5_getChar_1 4 rfl rfl)
theorem dJ5_getChar_29 : decode cJ5_getChar 29 = .ok (.iconst 1, 1) := dk_4 (dk_at dksJ5_getChar_1 5 rfl rfl)
theorem dJ5_getChar_30 : decode cJ5_getChar 30 = .ok (.ishl, 1) := dk_120 (dk_at dksJ5_getChar_1 6 rfl rfl)
theorem dJ5_getChar_31 : decode cJ5_getChar 31 = .ok (.istore_n 1, 1) := dk_60 (dk_at dksJ5_getChar_1 7 rfl rfl)
theorem dJ5_getChar_32 : decode cJ5_getChar 32 = .ok (.aload_n 0, 1) := dk_42 (dk_at dksJ5_getChar_1 8 rfl rfl)
theorem dJ5_getChar_33 : decode cJ5_getChar 33 = .ok (.iload_n 1, 1) := dk_27 (dk_at dksJ5_getChar_1 9 rfl rfl)
theorem dJ5_getChar_34 : decode cJ5_getChar 34 = .ok (.iinc 1 1, 3) := dk_132 1 1 (dk_at dksJ5_getChar_1 10 rfl rfl)
theorem dJ5_getChar_37 : decode cJ5_getChar 37 = .ok (.baload, 1) := dk_51 (dk_at dksJ5_getChar_1 13 rfl rfl)
theorem dJ5_getChar_38 : decode cJ5_getChar 38 = .ok (.sipush 255, 3) := dk_17 0 255 (dk_at dksJ5_getChar_1 14 rfl rfl)
theorem dJ5_getChar_41 : decode cJ5_getChar 41 = .ok (.iand, 1) := dk_126 (dk_at dksJ5_getChar_1 17 rfl rfl)
theorem dJ5_getChar_42 : decode cJ5_getChar 42 = .ok (.getstatic 59, 3) := dk_178 0 59 (dk_at dksJ5_getChar_1 18 rfl rfl)
theorem dJ5_getChar_45 : decode cJ5_getChar 45 = .ok (.ishl, 1) := dk_120 (dk_at dksJ5_getChar_1 21 rfl rfl)
theorem dJ5_getChar_46 : decode cJ5_getChar 46 = .ok (.aload_n 0, 1) := dk_42 (dk_at dksJ5_getChar_1 22 rfl rfl)
theorem dJ5_getChar_47 : decode cJ5_getChar 47 = .ok (.iload_n 1, 1) := dk_27 (dk_at dksJ5_getChar_1 23 rfl rfl)
theorem dJ5_getChar_48 : decode cJ5_getChar 48 = .ok (.baload, 1) := dk_51 (dk_at dksJ5_getChar_2 0 rfl rfl)
theorem dJ5_getChar_49 : decode cJ5_getChar 49 = .ok (.sipush 255, 3) := dk_17 0 255 (dk_at dksJ5_getChar_2 1 rfl rfl)
theorem dJ5_getChar_52 : decode cJ5_getChar 52 = .ok (.iand, 1) := dk_126 (dk_at dksJ5_getChar_2 4 rfl rfl)
theorem dJ5_getChar_53 : decode cJ5_getChar 53 = .ok (.getstatic 63, 3) := dk_178 0 63 (dk_at dksJ5_getChar_2 5 rfl rfl)
theorem dJ5_getChar_56 : decode cJ5_getChar 56 = .ok (.ishl, 1) := dk_120 (dk_at dksJ5_getChar_2 8 rfl rfl)
theorem dJ5_getChar_57 : decode cJ5_getChar 57 = .ok (.ior, 1) := dk_128 (dk_at dksJ5_getChar_2 9 rfl rfl)
theorem dJ5_getChar_58 : decode cJ5_getChar 58 = .ok (.i2c, 1) := dk_146 (dk_at dksJ5_getChar_2 10 rfl rfl)
theorem dJ5_getChar_59 : decode cJ5_getChar 59 = .ok (.ireturn, 1) := dk_172 (dk_at dksJ5_getChar_2 11 rfl rfl)
theorem q75 : (Jvm.Cond.initialized "java/lang/StringUTF16") ∈ lw_all := lw_g (lw_at lw_m1 16 rfl) rfl
theorem q455 : (Jvm.Cond.static ({ cls := "java/lang/StringUTF16", name := "charAt", desc := "([BI)C" } : Jvm.MethodName)) ∈ lw_all := lw_g (lw_at lw_m2 156 rfl) rfl
theorem q456 : (Jvm.Cond.code ({ cls := "java/lang/StringUTF16", name := "charAt", desc := "([BI)C" } : Jvm.MethodName) prog_23_method_83_code (2 : Nat) (Option.some Jvm.ClassFile.FieldType.char)) ∈ lw_all := lw_g (lw_at lw_m2 157 rfl) rfl
theorem q457 : (Jvm.Cond.methodLink "java/lang/StringUTF16" (67 : Nat) ({ cls := "java/lang/StringUTF16", name := "checkIndex", desc := "(I[B)V" } : Jvm.MethodName)) ∈ lw_all := lw_g (lw_at lw_m2 158 rfl) rfl
theorem q458 : (Jvm.Cond.static ({ cls := "java/lang/StringUTF16", name := "checkIndex", desc := "(I[B)V" } : Jvm.MethodName)) ∈ lw_all := lw_g (lw_at lw_m2 159 rfl) rfl
theorem q459 : (Jvm.Cond.code ({ cls := "java/lang/StringUTF16", name := "checkIndex", desc := "(I[B)V" } : Jvm.MethodName) prog_23_method_91_code (2 : Nat) (Option.none : Option Jvm.ClassFile.FieldType)) ∈ lw_all := lw_g (lw_at lw_m2 160 rfl) rfl
theorem q460 : (Jvm.Cond.methodLink "java/lang/StringUTF16" (48 : Nat) ({ cls := "java/lang/StringUTF16", name := "length", desc := "([B)I" } : Jvm.MethodName)) ∈ lw_all := lw_g (lw_at lw_m2 161 rfl) rfl
theorem q461 : (Jvm.Cond.static ({ cls := "java/lang/StringUTF16", name := "length", desc := "([B)I" } : Jvm.MethodName)) ∈ lw_all := lw_g (lw_at lw_m2 162 rfl) rfl
theorem q462 : (Jvm.Cond.code ({ cls := "java/lang/StringUTF16", name := "length", desc := "([B)I" } : Jvm.MethodName) prog_23_method_6_code (1 : Nat) (Option.some Jvm.ClassFile.FieldType.int)) ∈ lw_all := lw_g (lw_at lw_m2 163 rfl) rfl
theorem q463 : (Jvm.Cond.methodLink "java/lang/StringUTF16" (414 : Nat) ({ cls := "java/lang/String", name := "checkIndex", desc := "(II)V" } : Jvm.MethodName)) ∈ lw_all := lw_g (lw_at lw_m2 164 rfl) rfl
theorem q464 : (Jvm.Cond.methodLink "java/lang/StringUTF16" (71 : Nat) ({ cls := "java/lang/StringUTF16", name := "getChar", desc := "([BI)C" } : Jvm.MethodName)) ∈ lw_all := lw_g (lw_at lw_m2 165 rfl) rfl
theorem q465 : (Jvm.Cond.static ({ cls := "java/lang/StringUTF16", name := "getChar", desc := "([BI)C" } : Jvm.MethodName)) ∈ lw_all := lw_g (lw_at lw_m2 166 rfl) rfl
theorem q466 : (Jvm.Cond.code ({ cls := "java/lang/StringUTF16", name := "getChar", desc := "([BI)C" } : Jvm.MethodName) prog_23_method_5_code (2 : Nat) (Option.some Jvm.ClassFile.FieldType.char)) ∈ lw_all := lw_g (lw_at lw_m2 167 rfl) rfl
theorem q467 : (Jvm.Cond.fieldLink "java/lang/StringUTF16" (44 : Nat) "java/lang/StringUTF16" "$assertionsDisabled" "Z") ∈ lw_all := lw_g (lw_at lw_m2 168 rfl) rfl
theorem q468 : (Jvm.Cond.laysStatic "java/lang/StringUTF16" "$assertionsDisabled" "Z") ∈ lw_tbl := lw_at lw_m2 169 rfl
theorem q469 : (Jvm.Cond.fieldLink "java/lang/StringUTF16" (59 : Nat) "java/lang/StringUTF16" "HI_BYTE_SHIFT" "I") ∈ lw_all := lw_g (lw_at lw_m2 170 rfl) rfl
theorem q470 : (Jvm.Cond.laysStatic "java/lang/StringUTF16" "HI_BYTE_SHIFT" "I") ∈ lw_tbl := lw_at lw_m2 171 rfl
theorem q471 : (Jvm.Cond.fieldLink "java/lang/StringUTF16" (63 : Nat) "java/lang/StringUTF16" "LO_BYTE_SHIFT" "I") ∈ lw_all := lw_g (lw_at lw_m2 172 rfl) rfl
theorem q472 : (Jvm.Cond.laysStatic "java/lang/StringUTF16" "LO_BYTE_SHIFT" "I") ∈ lw_tbl := lw_at lw_m2 173 rfl
/-! java/lang/Math -/
set_option maxRecDepth 100000
def RJ6 : String := "java/lang/Math"
abbrev cJ6_max : ByteArray := prog_17_method_65_code
def yJ6_max : MethodName := ⟨RJ6, "max", "(II)I"⟩
def dkwJ6_max_0 : List UInt8 := [26, 27, 161, 0, 7, 26, 167, 0, 4, 27, 172]
abbrev dktJ6_max_0 : List UInt8 := dkwJ6_max_0 ++ []
theorem dksJ6_max_0 : cJ6_max.data.toList.drop 0 = dktJ6_max_0 := by decide +kernel
theorem dJ6_max_0 : decode cJ6_max 0 = .ok (.iload_n 0, 1) := dk_26 (dk_at dksJ6_max_0 0 rfl rfl)
theorem dJ6_max_1 : decode cJ6_max 1 = .ok (.iload_n 1, 1) := dk_27 (dk_at dksJ6_max_0 1 rfl rfl)
theorem dJ6_max_2 : decode cJ6_max 2 = .ok (.if_icmp .lt 7, 3) := dk_161 0 7 (dk_at dksJ6_max_0 2 rfl rfl)
theorem dJ6_max_5 : decode cJ6_max 5 = .ok (.iload_n 0, 1) := dk_26 (dk_at dksJ6_max_0 5 rfl rfl)
theorem dJ6_max_6 : decode cJ6_max 6 = .ok (.goto 4, 3) := dk_167 0 4 (dk_at dksJ6_max_0 6 rfl rfl)
theorem dJ6_max_9 : decode cJ6_max 9 = .ok (.iload_n 1, 1) := dk_27 (dk_at dksJ6_max_0 9 rfl rfl)
theorem dJ6_max_10 : decode cJ6_max 10 = .ok (.ireturn, 1) := dk_172 (dk_at dksJ6_max_0 10 rfl rfl)
abbrev cJ6_abs : ByteArray := prog_17_method_59_code
def yJ6_abs : MethodName := ⟨RJ6, "abs", "(I)I"⟩
def dkwJ6_abs_0 : List UInt8 := [26, 156, 0, 8, 26, 116, 167, 0, 4, 26, 172]
abbrev dktJ6_abs_0 : List UInt8 := dkwJ6_abs_0 ++ []
theorem dksJ6_abs_0 : cJ6_abs.data.toList.drop 0 = dktJ6_abs_0 := by decide +kernel
theorem dJ6_abs_0 : decode cJ6_abs 0 = .ok (.iload_n 0, 1) := dk_26 (dk_at dksJ6_abs_0 0 rfl rfl)
theorem dJ6_abs_1 : decode cJ6_abs 1 = .ok (.ifCond .ge 8, 3) := dk_156 0 8 (dk_at dksJ6_abs_0 1 rfl rfl)
theorem dJ6_abs_4 : decode cJ6_abs 4 = .ok (.iload_n 0, 1) := dk_26 (dk_at dksJ6_abs_0 4 rfl rfl)
theorem dJ6_abs_5 : decode cJ6_abs 5 = .ok (.ineg, 1) := dk_116 (dk_at dksJ6_abs_0 5 rfl rfl)
theorem dJ6_abs_6 : decode cJ6_abs 6 = .ok (.goto 4, 3) := dk_167 0 4 (dk_at dksJ6_abs_0 6 rfl rfl)
theorem dJ6_abs_9 : decode cJ6_abs 9 = .ok (.iload_n 0, 1) := dk_26 (dk_at dksJ6_abs_0 9 rfl rfl)
theorem dJ6_abs_10 : decode cJ6_abs 10 = .ok (.ireturn, 1) := dk_172 (dk_at dksJ6_abs_0 10 rfl rfl)
abbrev cJ6_min : ByteArray := prog_17_method_69_code
def yJ6_min : MethodName := ⟨RJ6, "min", "(II)I"⟩
def dkwJ6_min_0 : List UInt8 := [26, 27, 163, 0, 7, 26, 167, 0, 4, 27, 172]
abbrev dktJ6_min_0 : List UInt8 := dkwJ6_min_0 ++ []
theorem dksJ6_min_0 : cJ6_min.data.toList.drop 0 = dktJ6_min_0 := by decide +kernel
theorem dJ6_min_0 : decode cJ6_min 0 = .ok (.iload_n 0, 1) := dk_26 (dk_at dksJ6_min_0 0 rfl rfl)
theorem dJ6_min_1 : decode cJ6_min 1 = .ok (.iload_n 1, 1) := dk_27 (dk_at dksJ6_min_0 1 rfl rfl)
theorem dJ6_min_2 : decode cJ6_min 2 = .ok (.if_icmp .gt 7, 3) := dk_163 0 7 (dk_at dksJ6_min_0 2 rfl rfl)
theorem dJ6_min_5 : decode cJ6_min 5 = .ok (.iload_n 0, 1) := dk_26 (dk_at dksJ6_min_0 5 rfl rfl)
theorem dJ6_min_6 : decode cJ6_min 6 = .ok (.goto 4, 3) := dk_167 0 4 (dk_at dksJ6_min_0 6 rfl rfl)
theorem dJ6_min_9 : decode cJ6_min 9 = .ok (.iload_n 1, 1) := dk_27 (dk_at dksJ6_min_0 9 rfl rfl)
theorem dJ6_min_10 : decode cJ6_min 10 = .ok (.ireturn, 1) := dk_172 (dk_at dksJ6_min_0 10 rfl rfl)
theorem q76 : (Jvm.Cond.initialized "java/lang/Math") ∈ lw_all := lw_g (lw_at lw_m1 17 rfl) rfl
theorem q519 : (Jvm.Cond.static ({ cls := "java/lang/Math", name := "max", desc := "(II)I" } : Jvm.MethodName)) ∈ lw_all := lw_g (lw_at lw_m2 220 rfl) rfl
theorem q520 : (Jvm.Cond.code ({ cls := "java/lang/Math", name := "max", desc := "(II)I" } : Jvm.MethodName) prog_17_method_65_code (2 : Nat) (Option.some Jvm.ClassFile.FieldType.int)) ∈ lw_all := lw_g (lw_at lw_m2 221 rfl) rfl
theorem q581 : (Jvm.Cond.static ({ cls := "java/lang/Math", name := "abs", desc := "(I)I" } : Jvm.MethodName)) ∈ lw_all := lw_g (lw_at lw_m3 42 rfl) rfl
theorem q582 : (Jvm.Cond.code ({ cls := "java/lang/Math", name := "abs", desc := "(I)I" } : Jvm.MethodName) prog_17_method_59_code (1 : Nat) (Option.some Jvm.ClassFile.FieldType.int)) ∈ lw_all := lw_g (lw_at lw_m3 43 rfl) rfl
theorem q590 : (Jvm.Cond.static ({ cls := "java/lang/Math", name := "min", desc := "(II)I" } : Jvm.MethodName)) ∈ lw_all := lw_g (lw_at lw_m3 51 rfl) rfl
theorem q591 : (Jvm.Cond.code ({ cls := "java/lang/Math", name := "min", desc := "(II)I" } : Jvm.MethodName) prog_17_method_69_code (2 : Nat) (Option.some Jvm.ClassFile.FieldType.int)) ∈ lw_all := lw_g (lw_at lw_m3 52 rfl) rfl
/-! java/lang/Integer -/
set_option maxRecDepth 100000
def RJ7 : String := "java/lang/Integer"
abbrev cJ7_bitCount : ByteArray := prog_16_method_49_code
def yJ7_bitCount : MethodName := ⟨RJ7, "bitCount", "(I)I"⟩
def dkwJ7_bitCount_2 : List UInt8 := [26, 16, 63, 126, 172]
abbrev dktJ7_bitCount_2 : List UInt8 := dkwJ7_bitCount_2 ++ []
def dkwJ7_bitCount_1 : List UInt8 := [26, 26, 7, 124, 96, 19, 1, 11, 126, 59, 26, 26, 16, 8, 124, 96, 59, 26, 26, 16, 16, 124, 96, 59]
abbrev dktJ7_bitCount_1 : List UInt8 := dkwJ7_bitCount_1 ++ dktJ7_bitCount_2
def dkwJ7_bitCount_0 : List UInt8 := [26, 26, 4, 124, 19, 1, 9, 126, 100, 59, 26, 19, 1, 10, 126, 26, 5, 124, 19, 1, 10, 126, 96, 59]
abbrev dktJ7_bitCount_0 : List UInt8 := dkwJ7_bitCount_0 ++ dktJ7_bitCount_1
theorem dksJ7_bitCount_0 : cJ7_bitCount.data.toList.drop 0 = dktJ7_bitCount_0 := by decide +kernel
theorem dksJ7_bitCount_1 : cJ7_bitCount.data.toList.drop 24 = dktJ7_bitCount_1 := dk_seg dksJ7_bitCount_0 24 rfl rfl
theorem dksJ7_bitCount_2 : cJ7_bitCount.data.toList.drop 48 = dktJ7_bitCount_2 := dk_seg dksJ7_bitCount_1 24 rfl rfl
theorem dJ7_bitCount_0 : decode cJ7_bitCount 0 = .ok (.iload_n 0, 1) := dk_26 (dk_at dksJ7_bitCount_0 0 rfl rfl)
theorem dJ7_bitCount_1 : decode cJ7_bitCount 1 = .ok (.iload_n 0, 1) := dk_26 (dk_at dksJ7_bitCount_0 1 rfl rfl)
theorem dJ7_bitCount_2 : decode cJ7_bitCount 2 = .ok (.iconst 1, 1) := dk_4 (dk_at dksJ7_bitCount_0 2 rfl rfl)
theorem dJ7_bitCount_3 : decode cJ7_bitCount 3 = .ok (.iushr, 1) := dk_124 (dk_at dksJ7_bitCount_0 3 rfl rfl)
theorem dJ7_bitCount_4 : decode cJ7_bitCount 4 = .ok (.ldc_w 265, 3) := dk_19 1 9 (dk_at dksJ7_bitCount_0 4 rfl rfl)
theorem dJ7_bitCount_7 : decode cJ7_bitCount 7 = .ok (.iand, 1) := dk_126 (dk_at dksJ7_bitCount_0 7 rfl rfl)
theorem dJ7_bitCount_8 : decode cJ7_bitCount 8 = .ok (.isub, 1) := dk_100 (dk_at dksJ7_bitCount_0 8 rfl rfl)
theorem dJ7_bitCount_9 : decode cJ7_bitCount 9 = .ok (.istore_n 0, 1) := dk_59 (dk_at dksJ7_bitCount_0 9 rfl rfl)
theorem dJ7_bitCount_10 : decode cJ7_bitCount 10 = .ok (.iload_n 0, 1) := dk_26 (dk_at dksJ7_bitCount_0 10 rfl rfl)
theorem dJ7_bitCount_11 : decode cJ7_bitCount 11 = .ok (.ldc_w 266, 3) := dk_19 1 10 (dk_at dksJ7_bitCount_0 11 rfl rfl)
theorem dJ7_bitCount_14 : decode cJ7_bitCount 14 = .ok (.iand, 1) := dk_126 (dk_at dksJ7_bitCount_0 14 rfl rfl)
theorem dJ7_bitCount_15 : decode cJ7_bitCount 15 = .ok (.iload_n 0, 1) := dk_26 (dk_at dksJ7_bitCount_0 15 rfl rfl)
theorem dJ7_bitCount_16 : decode cJ7_bitCount 16 = .ok (.iconst 2, 1) := dk_5 (dk_at dksJ7_bitCount_0 16 rfl rfl)
theorem dJ7_bitCount_17 : decode cJ7_bitCount 17 = .ok (.iushr, 1) := dk_124 (dk_at dksJ7_bitCount_0 17 rfl rfl)
theorem dJ7_bitCount_18 : decode cJ7_bitCount 18 = .ok (.ldc_w 266, 3) := dk_19 1 10 (dk_at dksJ7_bitCount_0 18 rfl rfl)
theorem dJ7_bitCount_21 : decode cJ7_bitCount 21 = .ok (.iand, 1) := dk_126 (dk_at dksJ7_bitCount_0 21 rfl rfl)
theorem dJ7_bitCount_22 : decode cJ7_bitCount 22 = .ok (.iadd, 1) := dk_96 (dk_at dksJ7_bitCount_0 22 rfl rfl)
theorem dJ7_bitCount_23 : decode cJ7_bitCount 23 = .ok (.istore_n 0, 1) := dk_59 (dk_at dksJ7_bitCount_0 23 rfl rfl)
theorem dJ7_bitCount_24 : decode cJ7_bitCount 24 = .ok (.iload_n 0, 1) := dk_26 (dk_at dksJ7_bitCount_1 0 rfl rfl)
theorem dJ7_bitCount_25 : decode cJ7_bitCount 25 = .ok (.iload_n 0, 1) := dk_26 (dk_at dksJ7_bitCount_1 1 rfl rfl)
theorem dJ7_bitCount_26 : decode cJ7_bitCount 26 = .ok (.iconst 4, 1) := dk_7 (dk_at dksJ7_bitCount_1 2 rfl rfl)
theorem dJ7_bitCount_27 : decode cJ7_bitCount 27 = .ok (.iushr, 1) := dk_124 (dk_at dksJ7_bitCount_1 3 rfl rfl)
theorem dJ7_bitCount_28 : decode cJ7_bitCount 28 = .ok (.iadd, 1) := dk_96 (dk_at dksJ7_bitCount_1 4 rfl rfl)
theorem dJ7_bitCount_29 : decode cJ7_bitCount 29 = .ok (.ldc_w 267, 3) := dk_19 1 11 (dk_at dksJ7_bitCount_1 5 rfl rfl)
theorem dJ7_bitCount_32 : decode cJ7_bitCount 32 = .ok (.iand, 1) := dk_126 (dk_at dksJ7_bitCount_1 8 rfl rfl)
theorem dJ7_bitCount_33 : decode cJ7_bitCount 33 = .ok (.istore_n 0, 1) := dk_59 (dk_at dksJ7_bitCount_1 9 rfl rfl)
theorem dJ7_bitCount_34 : decode cJ7_bitCount 34 = .ok (.iload_n 0, 1) := dk_26 (dk_at dksJ7_bitCount_1 10 rfl rfl)
theorem dJ7_bitCount_35 : decode cJ7_bitCount 35 = .ok (.iload_n 0, 1) := dk_26 (dk_at dksJ7_bitCount_1 11 rfl rfl)
theorem dJ7_bitCount_36 : decode cJ7_bitCount 36 = .ok (.bipush 8, 2) := dk_16 8 (dk_at dksJ7_bitCount_1 12 rfl rfl)
theorem dJ7_bitCount_38 : decode cJ7_bitCount 38 = .ok (.iushr, 1) := dk_124 (dk_at dksJ7_bitCount_1 14 rfl rfl)
theorem dJ7_bitCount_39 : decode cJ7_bitCount 39 = .ok (.iadd, 1) := dk_96 (dk_at dksJ7_bitCount_1 15 rfl rfl)
theorem dJ7_bitCount_40 : decode cJ7_bitCount 40 = .ok (.istore_n 0, 1) := dk_59 (dk_at dksJ7_bitCount_1 16 rfl rfl)
theorem dJ7_bitCount_41 : decode cJ7_bitCount 41 = .ok (.iload_n 0, 1) := dk_26 (dk_at dksJ7_bitCount_1 17 rfl rfl)
theorem dJ7_bitCount_42 : decode cJ7_bitCount 42 = .ok (.iload_n 0, 1) := dk_26 (dk_at dksJ7_bitCount_1 18 rfl rfl)
theorem dJ7_bitCount_43 : decode cJ7_bitCount 43 = .ok (.bipush 16, 2) := dk_16 16 (dk_at dksJ7_bitCount_1 19 rfl rfl)
theorem dJ7_bitCount_45 : decode cJ7_bitCount 45 = .ok (.iushr, 1) := dk_124 (dk_at dksJ7_bitCount_1 21 rfl rfl)
theorem dJ7_bitCount_46 : decode cJ7_bitCount 46 = .ok (.iadd, 1) := dk_96 (dk_at dksJ7_bitCount_1 22 rfl rfl)
theorem dJ7_bitCount_47 : decode cJ7_bitCount 47 = .ok (.istore_n 0, 1) := dk_59 (dk_at dksJ7_bitCount_1 23 rfl rfl)
theorem dJ7_bitCount_48 : decode cJ7_bitCount 48 = .ok (.iload_n 0, 1) := dk_26 (dk_at dksJ7_bitCount_2 0 rfl rfl)
theorem dJ7_bitCount_49 : decode cJ7_bitCount 49 = .ok (.bipush 63, 2) := dk_16 63 (dk_at dksJ7_bitCount_2 1 rfl rfl)
theorem dJ7_bitCount_51 : decode cJ7_bitCount 51 = .ok (.iand, 1) := dk_126 (dk_at dksJ7_bitCount_2 3 rfl rfl)
theorem dJ7_bitCount_52 : decode cJ7_bitCount 52 = .ok (.ireturn, 1) := dk_172 (dk_at dksJ7_bitCount_2 4 rfl rfl)
abbrev cJ7_numberOfTrailingZeros : ByteArray := prog_16_method_48_code
def yJ7_numberOfTrailingZeros : MethodName := ⟨RJ7, "numberOfTrailingZeros", "(I)I"⟩
def dkwJ7_numberOfTrailingZeros_3 : List UInt8 := [5, 124, 59, 27, 26, 4, 124, 96, 172]
abbrev dktJ7_numberOfTrailingZeros_3 : List UInt8 := dkwJ7_numberOfTrailingZeros_3 ++ []
def dkwJ7_numberOfTrailingZeros_2 : List UInt8 := [124, 59, 26, 16, 16, 164, 0, 10, 132, 1, 4, 26, 7, 124, 59, 26, 7, 164, 0, 10, 132, 1, 2, 26]
abbrev dktJ7_numberOfTrailingZeros_2 : List UInt8 := dkwJ7_numberOfTrailingZeros_2 ++ dktJ7_numberOfTrailingZeros_3
def dkwJ7_numberOfTrailingZeros_1 : List UInt8 := [164, 0, 11, 132, 1, 16, 26, 16, 16, 124, 59, 26, 17, 1, 0, 164, 0, 11, 132, 1, 8, 26, 16, 8]
abbrev dktJ7_numberOfTrailingZeros_1 : List UInt8 := dkwJ7_numberOfTrailingZeros_1 ++ dktJ7_numberOfTrailingZeros_2
def dkwJ7_numberOfTrailingZeros_0 : List UInt8 := [26, 2, 130, 26, 4, 100, 126, 59, 26, 157, 0, 8, 26, 16, 32, 126, 172, 4, 60, 26, 19, 1, 8]
abbrev dktJ7_numberOfTrailingZeros_0 : List UInt8 := dkwJ7_numberOfTrailingZeros_0 ++ dktJ7_numberOfTrailingZeros_1
theorem dksJ7_numberOfTrailingZeros_0 : cJ7_numberOfTrailingZeros.data.toList.drop 0 = dktJ7_numberOfTrailingZeros_0 := by decide +kernel
theorem dksJ7_numberOfTrailingZeros_1 : cJ7_numberOfTrailingZeros.data.toList.drop 23 = dktJ7_numberOfTrailingZeros_1 := dk_seg dksJ7_numberOfTrailingZeros_0 23 rfl rfl
theorem dksJ7_numberOfTrailingZeros_2 : cJ7_numberOfTrailingZeros.data.toList.drop 47 = dktJ7_numberOfTrailingZeros_2 := dk_seg dksJ7_numberOfTrailingZeros_1 24 rfl rfl
theorem dksJ7_numberOfTrailingZeros_3 : cJ7_numberOfTrailingZeros.data.toList.drop 71 = dktJ7_numberOfTrailingZeros_3 := dk_seg dksJ7_numberOfTrailingZeros_2 24 rfl rfl
theorem dJ7_numberOfTrailingZeros_0 : decode cJ7_numberOfTrailingZeros 0 = .ok (.iload_n 0, 1) := dk_26 (dk_at dksJ7_numberOfTrailingZeros_0 0 rfl rfl)
theorem dJ7_numberOfTrailingZeros_1 : decode cJ7_numberOfTrailingZeros 1 = .ok (.iconst (-1), 1) := dk_2 (dk_at dksJ7_numberOfTrailingZeros_0 1 rfl rfl)
theorem dJ7_numberOfTrailingZeros_2 : decode cJ7_numberOfTrailingZeros 2 = .ok (.ixor, 1) := dk_130 (dk_at dksJ7_numberOfTrailingZeros_0 2 rfl rfl)
theorem dJ7_numberOfTrailingZeros_3 : decode cJ7_numberOfTrailingZeros 3 = .ok (.iload_n 0, 1) := dk_26 (dk_at dksJ7_numberOfTrailingZeros_0 3 rfl rfl)
theorem dJ7_numberOfTrailingZeros_4 : decode cJ7_numberOfTrailingZeros 4 = .ok (.iconst 1, 1) := dk_4 (dk_at dksJ7_numberOfTrailingZeros_0 4 rfl rfl)
theorem dJ7_numberOfTrailingZeros_5 : decode cJ7_numberOfTrailingZeros 5 = .ok (.isub, 1) := dk_100 (dk_at dksJ7_numberOfTrailingZeros_0 5 rfl rfl)
theorem dJ7_numberOfTrailingZeros_6 : decode cJ7_numberOfTrailingZeros 6 = .ok (.iand, 1) := dk_126 (dk_at dksJ7_numberOfTrailingZeros_0 6 rfl rfl)
theorem dJ7_numberOfTrailingZeros_7 : decode cJ7_numberOfTrailingZeros 7 = .ok (.istore_n 0, 1) := dk_59 (dk_at dksJ7_numberOfTrailingZeros_0 7 rfl rfl)
theorem dJ7_numberOfTrailingZeros_8 : decode cJ7_numberOfTrailingZeros 8 = .ok (.iload_n 0, 1) := dk_26 (dk_at dksJ7_numberOfTrailingZeros_0 8 rfl rfl)
theorem dJ7_numberOfTrailingZeros_9 : decode cJ7_numberOfTrailingZeros 9 = .ok (.ifCond .gt 8, 3) := dk_157 0 8 (dk_at dksJ7_numberOfTrailingZeros_0 9 rfl rfl)
theorem dJ7_numberOfTrailingZeros_12 : decode cJ7_numberOfTrailingZeros 12 = .ok (.iload_n 0, 1) := dk_26 (dk_at dksJ7_numberOfTrailingZeros_0 12 rfl rfl)
theorem dJ7_numberOfTrailingZeros_13 : decode cJ7_numberOfTrailingZeros 13 = .ok (.bipush 32, 2) := dk_16 32 (dk_at dksJ7_numberOfTrailingZeros_0 13 rfl rfl)
theorem dJ7_numberOfTrailingZeros_15 : decode cJ7_numberOfTrailingZeros 15 = .ok (.iand, 1) := dk_126 (dk_at dksJ7_numberOfTrailingZeros_0 15 rfl rfl)
theorem dJ7_numberOfTrailingZeros_16 : decode cJ7_numberOfTrailingZeros 16 = .ok (.ireturn, 1) := dk_172 (dk_at dksJ7_numberOfTrailingZeros_0 16 rfl rfl)
theorem dJ7_numberOfTrailingZeros_17 : decode cJ7_numberOfTrailingZeros 17 = .ok (.iconst 1, 1) := dk_4 (dk_at dksJ7_numberOfTrailingZeros_0 17 rfl rfl)
theorem dJ7_numberOfTrailingZeros_18 : decode cJ7_numberOfTrailingZeros 18 = .ok (.istore_n 1, 1) := dk_60 (dk_at dksJ7_numberOfTrailingZeros_0 18 rfl rfl)
theorem dJ7_numberOfTrailingZeros_19 : decode cJ7_numberOfTrailingZeros 19 = .ok (.iload_n 0, 1) := dk_26 (dk_at dksJ7_numberOfTrailingZeros_0 19 rfl rfl)
theorem dJ7_numberOfTrailingZeros_20 : decode cJ7_numberOfTrailingZeros 20 = .ok (.ldc_w 264, 3) := dk_19 1 8 (dk_at dksJ7_numberOfTrailingZeros_0 20 rfl rfl)
theorem dJ7_numberOfTrailingZeros_23 : decode cJ7_numberOfTrailingZeros 23 = .ok (.if_icmp .le 11, 3) := dk_164 0 11 (dk_at dksJ7_numberOfTrailingZeros_1 0 rfl rfl)
theorem dJ7_numberOfTrailingZeros_26 : decode cJ7_numberOfTrailingZeros 26 = .ok (.iinc 1 16, 3) := dk_132 1 16 (dk_at dksJ7_numberOfTrailingZeros_1 3 rfl rfl)
theorem dJ7_numberOfTrailingZeros_29 : decode cJ7_numberOfTrailingZeros 29 = .ok (.iload_n 0, 1) := dk_26 (dk_at dksJ7_numberOfTrailingZeros_1 6 rfl rfl)
theorem dJ7_numberOfTrailingZeros_30 : decode cJ7_numberOfTrailingZeros 30 = .ok (.bipush 16, 2) := dk_16 16 (dk_at dksJ7_numberOfTrailingZeros_1 7 rfl rfl)
theorem dJ7_numberOfTrailingZeros_32 : decode cJ7_numberOfTrailingZeros 32 = .ok (.iushr, 1) := dk_124 (dk_at dksJ7_numberOfTrailingZeros_1 9 rfl rfl)
theorem dJ7_numberOfTrailingZeros_33 : decode cJ7_numberOfTrailingZeros 33 = .ok (.istore_n 0, 1) := dk_59 (dk_at dksJ7_numberOfTrailingZeros_1 10 rfl rfl)
theorem dJ7_numberOfTrailingZeros_34 : decode cJ7_numberOfTrailingZeros 34 = .ok (.iload_n 0, 1) := dk_26 (dk_at dksJ7_numberOfTrailingZeros_1 11 rfl rfl)
theorem dJ7_numberOfTrailingZeros_35 : decode cJ7_numberOfTrailingZeros 35 = .ok (.sipush 256, 3) := dk_17 1 0 (dk_at dksJ7_numberOfTrailingZeros_1 12 rfl rfl)
theorem dJ7_numberOfTrailingZeros_38 : decode cJ7_numberOfTrailingZeros 38 = .ok (.if_icmp .le 11, 3) := dk_164 0 11 (dk_at dksJ7_numberOfTrailingZeros_1 15 rfl rfl)
theorem dJ7_numberOfTrailingZeros_41 : decode cJ7_numberOfTrailingZeros 41 = .ok (.iinc 1 8, 3) := dk_132 1 8 (dk_at dksJ7_numberOfTrailingZeros_1 18 rfl rfl)
theorem dJ7_numberOfTrailingZeros_44 : decode cJ7_numberOfTrailingZeros 44 = .ok (.iload_n 0, 1) := dk_26 (dk_at dksJ7_numberOfTrailingZeros_1 21 rfl rfl)
theorem dJ7_numberOfTrailingZeros_45 : decode cJ7_numberOfTrailingZeros 45 = .ok (.bipush 8, 2) := dk_16 8 (dk_at dksJ7_numberOfTrailingZeros_1 22 rfl rfl)
theorem dJ7_numberOfTrailingZeros_47 : decode cJ7_numberOfTrailingZeros 47 = .ok (.iushr, 1) := dk_124 (dk_at dksJ7_numberOfTrailingZeros_2 0 rfl rfl)
theorem dJ7_numberOfTrailingZeros_48 : decode cJ7_numberOfTrailingZeros 48 = .ok (.istore_n 0, 1) := dk_59 (dk_at dksJ7_numberOfTrailingZeros_2 1 rfl rfl)
theorem dJ7_numberOfTrailingZeros_49 : decode cJ7_numberOfTrailingZeros 49 = .ok (.iload_n 0, 1) := dk_26 (dk_at dksJ7_numberOfTrailingZeros_2 2 rfl rfl)
theorem dJ7_numberOfTrailingZeros_50 : decode cJ7_numberOfTrailingZeros 50 = .ok (.bipush 16, 2) := dk_16 16 (dk_at dksJ7_numberOfTrailingZeros_2 3 rfl rfl)
theorem dJ7_numberOfTrailingZeros_52 : decode cJ7_numberOfTrailingZeros 52 = .ok (.if_icmp .le 10, 3) := dk_164 0 10 (dk_at dksJ7_numberOfTrailingZeros_2 5 rfl rfl)
theorem dJ7_numberOfTrailingZeros_55 : decode cJ7_numberOfTrailingZeros 55 = .ok (.iinc 1 4, 3) := dk_132 1 4 (dk_at dksJ7_numberOfTrailingZeros_2 8 rfl rfl)
theorem dJ7_numberOfTrailingZeros_58 : decode cJ7_numberOfTrailingZeros 58 = .ok (.iload_n 0, 1) := dk_26 (dk_at dksJ7_numberOfTrailingZeros_2 11 rfl rfl)
theorem dJ7_numberOfTrailingZeros_59 : decode cJ7_numberOfTrailingZeros 59 = .ok (.iconst 4, 1) := dk_7 (dk_at dksJ7_numberOfTrailingZeros_2 12 rfl rfl)
theorem dJ7_numberOfTrailingZeros_60 : decode cJ7_numberOfTrailingZeros 60 = .ok (.iushr, 1) := dk_124 (dk_at dksJ7_numberOfTrailingZeros_2 13 rfl rfl)
theorem dJ7_numberOfTrailingZeros_61 : decode cJ7_numberOfTrailingZeros 61 = .ok (.istore_n 0, 1) := dk_59 (dk_at dksJ7_numberOfTrailingZeros_2 14 rfl rfl)
theorem dJ7_numberOfTrailingZeros_62 : decode cJ7_numberOfTrailingZeros 62 = .ok (.iload_n 0, 1) := dk_26 (dk_at dksJ7_numberOfTrailingZeros_2 15 rfl rfl)
theorem dJ7_numberOfTrailingZeros_63 : decode cJ7_numberOfTrailingZeros 63 = .ok (.iconst 4, 1) := dk_7 (dk_at dksJ7_numberOfTrailingZeros_2 16 rfl rfl)
theorem dJ7_numberOfTrailingZeros_64 : decode cJ7_numberOfTrailingZeros 64 = .ok (.if_icmp .le 10, 3) := dk_164 0 10 (dk_at dksJ7_numberOfTrailingZeros_2 17 rfl rfl)
theorem dJ7_numberOfTrailingZeros_67 : decode cJ7_numberOfTrailingZeros 67 = .ok (.iinc 1 2, 3) := dk_132 1 2 (dk_at dksJ7_numberOfTrailingZeros_2 20 rfl rfl)
theorem dJ7_numberOfTrailingZeros_70 : decode cJ7_numberOfTrailingZeros 70 = .ok (.iload_n 0, 1) := dk_26 (dk_at dksJ7_numberOfTrailingZeros_2 23 rfl rfl)
theorem dJ7_numberOfTrailingZeros_71 : decode cJ7_numberOfTrailingZeros 71 = .ok (.iconst 2, 1) := dk_5 (dk_at dksJ7_numberOfTrailingZeros_3 0 rfl rfl)
theorem dJ7_numberOfTrailingZeros_72 : decode cJ7_numberOfTrailingZeros 72 = .ok (.iushr, 1) := dk_124 (dk_at dksJ7_numberOfTrailingZeros_3 1 rfl rfl)
theorem dJ7_numberOfTrailingZeros_73 : decode cJ7_numberOfTrailingZeros 73 = .ok (.istore_n 0, 1) := dk_59 (dk_at dksJ7_numberOfTrailingZeros_3 2 rfl rfl)
theorem dJ7_numberOfTrailingZeros_74 : decode cJ7_numberOfTrailingZeros 74 = .ok (.iload_n 1, 1) := dk_27 (dk_at dksJ7_numberOfTrailingZeros_3 3 rfl rfl)
theorem dJ7_numberOfTrailingZeros_75 : decode cJ7_numberOfTrailingZeros 75 = .ok (.iload_n 0, 1) := dk_26 (dk_at dksJ7_numberOfTrailingZeros_3 4 rfl rfl)
theorem dJ7_numberOfTrailingZeros_76 : decode cJ7_numberOfTrailingZeros 76 = .ok (.iconst 1, 1) := dk_4 (dk_at dksJ7_numberOfTrailingZeros_3 5 rfl rfl)
theorem dJ7_numberOfTrailingZeros_77 : decode cJ7_numberOfTrailingZeros 77 = .ok (.iushr, 1) := dk_124 (dk_at dksJ7_numberOfTrailingZeros_3 6 rfl rfl)
theorem dJ7_numberOfTrailingZeros_78 : decode cJ7_numberOfTrailingZeros 78 = .ok (.iadd, 1) := dk_96 (dk_at dksJ7_numberOfTrailingZeros_3 7 rfl rfl)
theorem dJ7_numberOfTrailingZeros_79 : decode cJ7_numberOfTrailingZeros 79 = .ok (.ireturn, 1) := dk_172 (dk_at dksJ7_numberOfTrailingZeros_3 8 rfl rfl)
theorem q78 : (Jvm.Cond.initialized "java/lang/Integer") ∈ lw_all := lw_g (lw_at lw_m1 19 rfl) rfl
theorem q701 : (Jvm.Cond.static ({ cls := "java/lang/Integer", name := "bitCount", desc := "(I)I" } : Jvm.MethodName)) ∈ lw_all := lw_g (lw_at lw_m3 162 rfl) rfl
theorem q702 : (Jvm.Cond.code ({ cls := "java/lang/Integer", name := "bitCount", desc := "(I)I" } : Jvm.MethodName) prog_16_method_49_code (1 : Nat) (Option.some Jvm.ClassFile.FieldType.int)) ∈ lw_all := lw_g (lw_at lw_m3 163 rfl) rfl
theorem q703 : (Jvm.Cond.constant "java/lang/Integer" (265 : Nat) (1431655765 : Int32)) ∈ lw_all := lw_g (lw_at lw_m3 164 rfl) rfl
theorem q704 : (Jvm.Cond.constant "java/lang/Integer" (266 : Nat) (858993459 : Int32)) ∈ lw_all := lw_g (lw_at lw_m3 165 rfl) rfl
theorem q705 : (Jvm.Cond.constant "java/lang/Integer" (267 : Nat) (252645135 : Int32)) ∈ lw_all := lw_g (lw_at lw_m3 166 rfl) rfl
theorem q711 : (Jvm.Cond.static ({ cls := "java/lang/Integer", name := "numberOfTrailingZeros", desc := "(I)I" } : Jvm.MethodName)) ∈ lw_all := lw_g (lw_at lw_m3 172 rfl) rfl
theorem q712 : (Jvm.Cond.code ({ cls := "java/lang/Integer", name := "numberOfTrailingZeros", desc := "(I)I" } : Jvm.MethodName) prog_16_method_48_code (2 : Nat) (Option.some Jvm.ClassFile.FieldType.int)) ∈ lw_all := lw_g (lw_at lw_m3 173 rfl) rfl
theorem q713 : (Jvm.Cond.constant "java/lang/Integer" (264 : Nat) (65536 : Int32)) ∈ lw_all := lw_g (lw_at lw_m3 174 rfl) rfl
/-! java/lang/RuntimeException -/
set_option maxRecDepth 100000
def RJ8 : String := "java/lang/RuntimeException"
abbrev cJ8_init : ByteArray := prog_20_method_2_code
def yJ8_init : MethodName := ⟨RJ8, "<init>", "(Ljava/lang/String;)V"⟩
def dkwJ8_init_0 : List UInt8 := [42, 43, 183, 0, 7, 177]
abbrev dktJ8_init_0 : List UInt8 := dkwJ8_init_0 ++ []
theorem dksJ8_init_0 : cJ8_init.data.toList.drop 0 = dktJ8_init_0 := by decide +kernel
theorem dJ8_init_0 : decode cJ8_init 0 = .ok (.aload_n 0, 1) := dk_42 (dk_at dksJ8_init_0 0 rfl rfl)
theorem dJ8_init_1 : decode cJ8_init 1 = .ok (.aload_n 1, 1) := dk_43 (dk_at dksJ8_init_0 1 rfl rfl)
theorem dJ8_init_2 : decode cJ8_init 2 = .ok (.invokespecial 7, 3) := dk_183 0 7 (dk_at dksJ8_init_0 2 rfl rfl)
theorem dJ8_init_5 : decode cJ8_init 5 = .ok (.return_, 1) := dk_177 (dk_at dksJ8_init_0 5 rfl rfl)
abbrev cJ8_init_2 : ByteArray := prog_20_method_1_code
def yJ8_init_2 : MethodName := ⟨RJ8, "<init>", "()V"⟩
theorem dJ8_init_2_0 : decode cJ8_init_2 0 = .ok (.aload_n 0, 1) := by decide +kernel
theorem dJ8_init_2_1 : decode cJ8_init_2 1 = .ok (.invokespecial 1, 3) := by decide +kernel
theorem dJ8_init_2_4 : decode cJ8_init_2 4 = .ok (.return_, 1) := by decide +kernel
theorem q79 : (Jvm.Cond.initialized "java/lang/RuntimeException") ∈ lw_all := lw_g (lw_at lw_m1 20 rfl) rfl
theorem q335 : (Jvm.Cond.sameMethod "java/lang/RuntimeException" "java/lang/Throwable" "fillInStackTrace" "()Ljava/lang/Throwable;") ∈ lw_all := lw_g (lw_at lw_m2 36 rfl) rfl
theorem q338 : (Jvm.Cond.superclass "java/lang/RuntimeException" "java/lang/Exception") ∈ lw_all := lw_g (lw_at lw_m2 39 rfl) rfl
theorem q843 : (Jvm.Cond.instanceMethod ({ cls := "java/lang/RuntimeException", name := "<init>", desc := "(Ljava/lang/String;)V" } : Jvm.MethodName)) ∈ lw_all := lw_g (lw_at lw_m4 64 rfl) rfl
theorem q844 : (Jvm.Cond.code ({ cls := "java/lang/RuntimeException", name := "<init>", desc := "(Ljava/lang/String;)V" } : Jvm.MethodName) prog_20_method_2_code (2 : Nat) (Option.none : Option Jvm.ClassFile.FieldType)) ∈ lw_all := lw_g (lw_at lw_m4 65 rfl) rfl
theorem q845 : (Jvm.Cond.methodLink "java/lang/RuntimeException" (7 : Nat) ({ cls := "java/lang/Exception", name := "<init>", desc := "(Ljava/lang/String;)V" } : Jvm.MethodName)) ∈ lw_all := lw_g (lw_at lw_m4 66 rfl) rfl
theorem q859 : (Jvm.Cond.declares ({ cls := "java/lang/RuntimeException", name := "<init>", desc := "()V" } : Jvm.MethodName)) ∈ lw_tbl := lw_at lw_m4 80 rfl
theorem q860 : (Jvm.Cond.declares ({ cls := "java/lang/RuntimeException", name := "<init>", desc := "(Ljava/lang/String;)V" } : Jvm.MethodName)) ∈ lw_tbl := lw_at lw_m4 81 rfl
theorem q880 : (Jvm.Cond.instanceMethod ({ cls := "java/lang/RuntimeException", name := "<init>", desc := "()V" } : Jvm.MethodName)) ∈ lw_all := lw_g (lw_at lw_m4 101 rfl) rfl
theorem q881 : (Jvm.Cond.code ({ cls := "java/lang/RuntimeException", name := "<init>", desc := "()V" } : Jvm.MethodName) prog_20_method_1_code (1 : Nat) (Option.none : Option Jvm.ClassFile.FieldType)) ∈ lw_all := lw_g (lw_at lw_m4 102 rfl) rfl
theorem q882 : (Jvm.Cond.methodLink "java/lang/RuntimeException" (1 : Nat) ({ cls := "java/lang/Exception", name := "<init>", desc := "()V" } : Jvm.MethodName)) ∈ lw_all := lw_g (lw_at lw_m4 103 rfl) rfl
theorem q900 : (Jvm.Cond.castable "java/lang/RuntimeException" "java/lang/Throwable") ∈ lw_tbl := lw_at lw_m4 121 rfl
/-! java/lang/NegativeArraySizeException -/
set_option maxRecDepth 100000
def RJ9 : String := "java/lang/NegativeArraySizeException"
def TJ9 : u_T := fun k => match k with
  | 0 => ("java/lang/Throwable", "backtrace", "Ljava/lang/Object;", false)
  | 1 => ("java/lang/Throwable", "detailMessage", "Ljava/lang/String;", false)
  | 2 => ("java/lang/Throwable", "cause", "Ljava/lang/Throwable;", false)
  | 3 => ("java/lang/Throwable", "stackTrace", "[Ljava/lang/StackTraceElement;", false)
  | 4 => ("java/lang/Throwable", "depth", "I", false)
  | _ => ("java/lang/Throwable", "suppressedExceptions", "Ljava/util/List;", false)
def tyJ9 : Nat → FieldType := fun k => match k with
  | 0 => .object "java/lang/Object"
  | 1 => .object "java/lang/String"
  | 2 => .object "java/lang/Throwable"
  | 3 => .array (.object "java/lang/StackTraceElement")
  | 4 => .int
  | _ => .object "java/util/List"
abbrev wsJ90 : List Cond := u_ws RJ9 TJ9 6
theorem nmJ9 : ∀ a, a < 6 → ∀ b, b < 6 → a ≠ b → (TJ9 a).2.1 ≠ (TJ9 b).2.1 := by decide +kernel
theorem tyJ9_ok : ∀ k, k < 6 → parseFieldDescriptor (TJ9 k).2.2.1 = some (tyJ9 k) := by decide +kernel
abbrev cJ9_init : ByteArray := prog_18_method_2_code
def yJ9_init : MethodName := ⟨RJ9, "<init>", "(Ljava/lang/String;)V"⟩
def dkwJ9_init_0 : List UInt8 := [42, 43, 183, 0, 7, 177]
abbrev dktJ9_init_0 : List UInt8 := dkwJ9_init_0 ++ []
theorem dksJ9_init_0 : cJ9_init.data.toList.drop 0 = dktJ9_init_0 := by decide +kernel
theorem dJ9_init_0 : decode cJ9_init 0 = .ok (.aload_n 0, 1) := dk_42 (dk_at dksJ9_init_0 0 rfl rfl)
theorem dJ9_init_1 : decode cJ9_init 1 = .ok (.aload_n 1, 1) := dk_43 (dk_at dksJ9_init_0 1 rfl rfl)
theorem dJ9_init_2 : decode cJ9_init 2 = .ok (.invokespecial 7, 3) := dk_183 0 7 (dk_at dksJ9_init_0 2 rfl rfl)
theorem dJ9_init_5 : decode cJ9_init 5 = .ok (.return_, 1) := dk_177 (dk_at dksJ9_init_0 5 rfl rfl)
theorem q80 : (Jvm.Cond.initialized "java/lang/NegativeArraySizeException") ∈ lw_all := lw_g (lw_at lw_m1 21 rfl) rfl
theorem q325 : (Jvm.Cond.selects "java/lang/NegativeArraySizeException" ({ cls := "java/lang/Throwable", name := "fillInStackTrace", desc := "()Ljava/lang/Throwable;" } : Jvm.MethodName) ({ cls := "java/lang/Throwable", name := "fillInStackTrace", desc := "()Ljava/lang/Throwable;" } : Jvm.MethodName)) ∈ lw_all := lw_g (lw_at lw_m2 26 rfl) rfl
theorem q839 : (Jvm.Cond.instantiable "java/lang/NegativeArraySizeException" (6 : Nat)) ∈ lw_all := lw_g (lw_at lw_m4 60 rfl) rfl
theorem q840 : (Jvm.Cond.instanceMethod ({ cls := "java/lang/NegativeArraySizeException", name := "<init>", desc := "(Ljava/lang/String;)V" } : Jvm.MethodName)) ∈ lw_all := lw_g (lw_at lw_m4 61 rfl) rfl
theorem q841 : (Jvm.Cond.code ({ cls := "java/lang/NegativeArraySizeException", name := "<init>", desc := "(Ljava/lang/String;)V" } : Jvm.MethodName) prog_18_method_2_code (2 : Nat) (Option.none : Option Jvm.ClassFile.FieldType)) ∈ lw_all := lw_g (lw_at lw_m4 62 rfl) rfl
theorem q842 : (Jvm.Cond.methodLink "java/lang/NegativeArraySizeException" (7 : Nat) ({ cls := "java/lang/RuntimeException", name := "<init>", desc := "(Ljava/lang/String;)V" } : Jvm.MethodName)) ∈ lw_all := lw_g (lw_at lw_m4 63 rfl) rfl
theorem q851 : (Jvm.Cond.lays "java/lang/NegativeArraySizeException" "java/lang/Throwable" "backtrace" "Ljava/lang/Object;") ∈ lw_all := lw_g (lw_at lw_m4 72 rfl) rfl
theorem q852 : (Jvm.Cond.lays "java/lang/NegativeArraySizeException" "java/lang/Throwable" "detailMessage" "Ljava/lang/String;") ∈ lw_all := lw_g (lw_at lw_m4 73 rfl) rfl
theorem q853 : (Jvm.Cond.lays "java/lang/NegativeArraySizeException" "java/lang/Throwable" "cause" "Ljava/lang/Throwable;") ∈ lw_all := lw_g (lw_at lw_m4 74 rfl) rfl
theorem q854 : (Jvm.Cond.lays "java/lang/NegativeArraySizeException" "java/lang/Throwable" "stackTrace" "[Ljava/lang/StackTraceElement;") ∈ lw_all := lw_g (lw_at lw_m4 75 rfl) rfl
theorem q855 : (Jvm.Cond.lays "java/lang/NegativeArraySizeException" "java/lang/Throwable" "depth" "I") ∈ lw_all := lw_g (lw_at lw_m4 76 rfl) rfl
theorem q856 : (Jvm.Cond.lays "java/lang/NegativeArraySizeException" "java/lang/Throwable" "suppressedExceptions" "Ljava/util/List;") ∈ lw_all := lw_g (lw_at lw_m4 77 rfl) rfl
theorem q857 : (Jvm.Cond.superclass "java/lang/NegativeArraySizeException" "java/lang/RuntimeException") ∈ lw_all := lw_g (lw_at lw_m4 78 rfl) rfl
theorem q858 : (Jvm.Cond.castable "java/lang/NegativeArraySizeException" "java/lang/NegativeArraySizeException") ∈ lw_tbl := lw_at lw_m4 79 rfl
theorem q861 : (Jvm.Cond.selects "java/lang/NegativeArraySizeException" ({ cls := "java/lang/Throwable", name := "fillInStackTrace", desc := "(I)Ljava/lang/Throwable;" } : Jvm.MethodName) ({ cls := "java/lang/Throwable", name := "fillInStackTrace", desc := "(I)Ljava/lang/Throwable;" } : Jvm.MethodName)) ∈ lw_all := lw_g (lw_at lw_m4 82 rfl) rfl
theorem in_J9 : ∀ w ∈ wsJ90, w ∈ lw_all := lw_in wsJ90 [851, 852, 853, 854, 855, 856] (by decide +kernel) (by decide +kernel)
theorem q59 : (Jvm.Cond.initialized "HedgehogLotsLaw") ∈ lw_all := lw_g (lw_at lw_m1 0 rfl) rfl
set_option maxRecDepth 100000
theorem q85 : (Jvm.Cond.classLink "HedgehogLotsLaw" (7 : Nat) "HedgehogLots") ∈ lw_all := lw_g (lw_at lw_m1 26 rfl) rfl
theorem q87 : (Jvm.Cond.methodLink "HedgehogLotsLaw" (9 : Nat) ({ cls := "HedgehogLots", name := "<init>", desc := "()V" } : Jvm.MethodName)) ∈ lw_all := lw_g (lw_at lw_m1 28 rfl) rfl
theorem q255 : (Jvm.Cond.methodLink "HedgehogLotsLaw" (13 : Nat) ({ cls := "HedgehogLots", name := "feed", desc := "(I)I" } : Jvm.MethodName)) ∈ lw_all := lw_g (lw_at lw_m1 196 rfl) rfl
theorem q263 : (Jvm.Cond.methodLink "HedgehogLotsLaw" (18 : Nat) ({ cls := "HedgehogLots", name := "end", desc := "(I)I" } : Jvm.MethodName)) ∈ lw_all := lw_g (lw_at lw_m1 204 rfl) rfl
theorem q267 : (Jvm.Cond.methodLink "HedgehogLotsLaw" (22 : Nat) ({ cls := "HedgehogLots", name := "text", desc := "()I" } : Jvm.MethodName)) ∈ lw_all := lw_g (lw_at lw_m1 208 rfl) rfl
theorem q528 : (Jvm.Cond.methodLink "HedgehogLotsLaw" (27 : Nat) ({ cls := "HedgehogLots", name := "fault", desc := "()I" } : Jvm.MethodName)) ∈ lw_all := lw_g (lw_at lw_m2 229 rfl) rfl
theorem q532 : (Jvm.Cond.methodLink "HedgehogLotsLaw" (31 : Nat) ({ cls := "HedgehogLots", name := "rule", desc := "(I)I" } : Jvm.MethodName)) ∈ lw_all := lw_g (lw_at lw_m2 233 rfl) rfl
theorem q605 : (Jvm.Cond.methodLink "HedgehogLotsLaw" (35 : Nat) ({ cls := "HedgehogLots", name := "peg", desc := "(II)I" } : Jvm.MethodName)) ∈ lw_all := lw_g (lw_at lw_m3 66 rfl) rfl
theorem q614 : (Jvm.Cond.methodLink "HedgehogLotsLaw" (40 : Nat) ({ cls := "HedgehogLots", name := "slug", desc := "(I)I" } : Jvm.MethodName)) ∈ lw_all := lw_g (lw_at lw_m3 75 rfl) rfl
theorem q618 : (Jvm.Cond.methodLink "HedgehogLotsLaw" (44 : Nat) ({ cls := "HedgehogLots", name := "hedgehog", desc := "(II)I" } : Jvm.MethodName)) ∈ lw_all := lw_g (lw_at lw_m3 79 rfl) rfl
theorem q627 : (Jvm.Cond.methodLink "HedgehogLotsLaw" (48 : Nat) ({ cls := "HedgehogLots", name := "suit", desc := "(II)I" } : Jvm.MethodName)) ∈ lw_all := lw_g (lw_at lw_m3 88 rfl) rfl
theorem q631 : (Jvm.Cond.methodLink "HedgehogLotsLaw" (52 : Nat) ({ cls := "HedgehogLots", name := "shift", desc := "(II)I" } : Jvm.MethodName)) ∈ lw_all := lw_g (lw_at lw_m3 92 rfl) rfl
theorem q637 : (Jvm.Cond.methodLink "HedgehogLotsLaw" (56 : Nat) ({ cls := "HedgehogLots", name := "rag", desc := "(II)I" } : Jvm.MethodName)) ∈ lw_all := lw_g (lw_at lw_m3 98 rfl) rfl
theorem q644 : (Jvm.Cond.methodLink "HedgehogLotsLaw" (60 : Nat) ({ cls := "HedgehogLots", name := "alter", desc := "(III)I" } : Jvm.MethodName)) ∈ lw_all := lw_g (lw_at lw_m3 105 rfl) rfl
theorem q649 : (Jvm.Cond.methodLink "HedgehogLotsLaw" (65 : Nat) ({ cls := "HedgehogLots", name := "drive", desc := "(II)I" } : Jvm.MethodName)) ∈ lw_all := lw_g (lw_at lw_m3 110 rfl) rfl
theorem q654 : (Jvm.Cond.methodLink "HedgehogLotsLaw" (69 : Nat) ({ cls := "HedgehogLots", name := "lay", desc := "(I)I" } : Jvm.MethodName)) ∈ lw_all := lw_g (lw_at lw_m3 115 rfl) rfl
theorem q659 : (Jvm.Cond.methodLink "HedgehogLotsLaw" (73 : Nat) ({ cls := "HedgehogLots", name := "clear", desc := "(I)I" } : Jvm.MethodName)) ∈ lw_all := lw_g (lw_at lw_m3 120 rfl) rfl
theorem q663 : (Jvm.Cond.methodLink "HedgehogLotsLaw" (77 : Nat) ({ cls := "HedgehogLots", name := "sue", desc := "(II)I" } : Jvm.MethodName)) ∈ lw_all := lw_g (lw_at lw_m3 124 rfl) rfl
theorem q675 : (Jvm.Cond.methodLink "HedgehogLotsLaw" (81 : Nat) ({ cls := "HedgehogLots", name := "drop", desc := "(I)I" } : Jvm.MethodName)) ∈ lw_all := lw_g (lw_at lw_m3 136 rfl) rfl
theorem q679 : (Jvm.Cond.methodLink "HedgehogLotsLaw" (85 : Nat) ({ cls := "HedgehogLots", name := "run", desc := "(III)I" } : Jvm.MethodName)) ∈ lw_all := lw_g (lw_at lw_m3 140 rfl) rfl
theorem q684 : (Jvm.Cond.methodLink "HedgehogLotsLaw" (89 : Nat) ({ cls := "HedgehogLots", name := "way", desc := "(III)I" } : Jvm.MethodName)) ∈ lw_all := lw_g (lw_at lw_m3 145 rfl) rfl
theorem q688 : (Jvm.Cond.methodLink "HedgehogLotsLaw" (93 : Nat) ({ cls := "HedgehogLots", name := "wins", desc := "(I)I" } : Jvm.MethodName)) ∈ lw_all := lw_g (lw_at lw_m3 149 rfl) rfl
theorem q692 : (Jvm.Cond.methodLink "HedgehogLotsLaw" (97 : Nat) ({ cls := "HedgehogLots", name := "share", desc := "(II)I" } : Jvm.MethodName)) ∈ lw_all := lw_g (lw_at lw_m3 153 rfl) rfl
theorem q706 : (Jvm.Cond.methodLink "HedgehogLotsLaw" (101 : Nat) ({ cls := "HedgehogLots", name := "first", desc := "(II)I" } : Jvm.MethodName)) ∈ lw_all := lw_g (lw_at lw_m3 167 rfl) rfl
theorem q714 : (Jvm.Cond.methodLink "HedgehogLotsLaw" (105 : Nat) ({ cls := "HedgehogLots", name := "kindly", desc := "(III)I" } : Jvm.MethodName)) ∈ lw_all := lw_g (lw_at lw_m3 175 rfl) rfl
theorem q718 : (Jvm.Cond.methodLink "HedgehogLotsLaw" (109 : Nat) ({ cls := "HedgehogLots", name := "place", desc := "(II)I" } : Jvm.MethodName)) ∈ lw_all := lw_g (lw_at lw_m3 179 rfl) rfl
theorem q741 : (Jvm.Cond.methodLink "HedgehogLotsLaw" (113 : Nat) ({ cls := "HedgehogLots", name := "move", desc := "(II)I" } : Jvm.MethodName)) ∈ lw_all := lw_g (lw_at lw_m3 202 rfl) rfl
theorem q745 : (Jvm.Cond.methodLink "HedgehogLotsLaw" (117 : Nat) ({ cls := "HedgehogLots", name := "bribe", desc := "(II)I" } : Jvm.MethodName)) ∈ lw_all := lw_g (lw_at lw_m3 206 rfl) rfl
theorem q754 : (Jvm.Cond.methodLink "HedgehogLotsLaw" (121 : Nat) ({ cls := "HedgehogLots", name := "need", desc := "(II)I" } : Jvm.MethodName)) ∈ lw_all := lw_g (lw_at lw_m3 215 rfl) rfl
theorem q758 : (Jvm.Cond.methodLink "HedgehogLotsLaw" (125 : Nat) ({ cls := "HedgehogLots", name := "swap", desc := "(II)I" } : Jvm.MethodName)) ∈ lw_all := lw_g (lw_at lw_m3 219 rfl) rfl
theorem q762 : (Jvm.Cond.methodLink "HedgehogLotsLaw" (129 : Nat) ({ cls := "HedgehogLots", name := "pull", desc := "(II)I" } : Jvm.MethodName)) ∈ lw_all := lw_g (lw_at lw_m3 223 rfl) rfl
theorem q770 : (Jvm.Cond.methodLink "HedgehogLotsLaw" (133 : Nat) ({ cls := "HedgehogLots", name := "luck", desc := "(IIIII)J" } : Jvm.MethodName)) ∈ lw_all := lw_g (lw_at lw_m3 231 rfl) rfl
theorem q783 : (Jvm.Cond.methodLink "HedgehogLotsLaw" (138 : Nat) ({ cls := "HedgehogLots", name := "mean", desc := "(IIII)J" } : Jvm.MethodName)) ∈ lw_all := lw_g (lw_at lw_m4 4 rfl) rfl
theorem q787 : (Jvm.Cond.methodLink "HedgehogLotsLaw" (143 : Nat) ({ cls := "HedgehogLots", name := "see", desc := "(III)I" } : Jvm.MethodName)) ∈ lw_all := lw_g (lw_at lw_m4 8 rfl) rfl
theorem q792 : (Jvm.Cond.methodLink "HedgehogLotsLaw" (147 : Nat) ({ cls := "HedgehogLots", name := "forget", desc := "(I)I" } : Jvm.MethodName)) ∈ lw_all := lw_g (lw_at lw_m4 13 rfl) rfl
theorem q796 : (Jvm.Cond.methodLink "HedgehogLotsLaw" (151 : Nat) ({ cls := "HedgehogLots", name := "kinds", desc := "(I)I" } : Jvm.MethodName)) ∈ lw_all := lw_g (lw_at lw_m4 17 rfl) rfl
theorem q804 : (Jvm.Cond.methodLink "HedgehogLotsLaw" (155 : Nat) ({ cls := "HedgehogLots", name := "speeds", desc := "(I)I" } : Jvm.MethodName)) ∈ lw_all := lw_g (lw_at lw_m4 25 rfl) rfl
theorem q812 : (Jvm.Cond.methodLink "HedgehogLotsLaw" (159 : Nat) ({ cls := "HedgehogLots", name := "ask", desc := "(II)I" } : Jvm.MethodName)) ∈ lw_all := lw_g (lw_at lw_m4 33 rfl) rfl
theorem q820 : (Jvm.Cond.methodLink "HedgehogLotsLaw" (163 : Nat) ({ cls := "HedgehogLots", name := "drift", desc := "(III)I" } : Jvm.MethodName)) ∈ lw_all := lw_g (lw_at lw_m4 41 rfl) rfl
theorem q826 : (Jvm.Cond.methodLink "HedgehogLotsLaw" (167 : Nat) ({ cls := "HedgehogLots", name := "keep", desc := "(I)I" } : Jvm.MethodName)) ∈ lw_all := lw_g (lw_at lw_m4 47 rfl) rfl
theorem q830 : (Jvm.Cond.methodLink "HedgehogLotsLaw" (171 : Nat) ({ cls := "HedgehogLots", name := "back", desc := "(I)I" } : Jvm.MethodName)) ∈ lw_all := lw_g (lw_at lw_m4 51 rfl) rfl
theorem q834 : (Jvm.Cond.methodLink "HedgehogLotsLaw" (175 : Nat) ({ cls := "HedgehogLots", name := "sheet", desc := "(III)I" } : Jvm.MethodName)) ∈ lw_all := lw_g (lw_at lw_m4 55 rfl) rfl
theorem q872 : (Jvm.Cond.methodLink "HedgehogLotsLaw" (179 : Nat) ({ cls := "HedgehogLots", name := "write", desc := "(III)I" } : Jvm.MethodName)) ∈ lw_all := lw_g (lw_at lw_m4 93 rfl) rfl
theorem q923 : (Jvm.Cond.methodLink "HedgehogLotsLaw" (183 : Nat) ({ cls := "HedgehogLots", name := "read", desc := "(IIII)I" } : Jvm.MethodName)) ∈ lw_all := lw_g (lw_at lw_m4 144 rfl) rfl
theorem q947 : (Jvm.Cond.methodLink "HedgehogLotsLaw" (188 : Nat) ({ cls := "HedgehogLots", name := "torn", desc := "()I" } : Jvm.MethodName)) ∈ lw_all := lw_g (lw_at lw_m4 168 rfl) rfl
theorem q951 : (Jvm.Cond.methodLink "HedgehogLotsLaw" (192 : Nat) ({ cls := "HedgehogLots", name := "count", desc := "(I)I" } : Jvm.MethodName)) ∈ lw_all := lw_g (lw_at lw_m4 172 rfl) rfl
theorem q955 : (Jvm.Cond.classLink "HedgehogLotsLaw" (10 : Nat) "HedgehogLotsModel") ∈ lw_all := lw_g (lw_at lw_m4 176 rfl) rfl
theorem q957 : (Jvm.Cond.methodLink "HedgehogLotsLaw" (12 : Nat) ({ cls := "HedgehogLotsModel", name := "<init>", desc := "()V" } : Jvm.MethodName)) ∈ lw_all := lw_g (lw_at lw_m4 178 rfl) rfl
theorem q1050 : (Jvm.Cond.methodLink "HedgehogLotsLaw" (17 : Nat) ({ cls := "HedgehogLotsModel", name := "feed", desc := "(I)I" } : Jvm.MethodName)) ∈ lw_all := lw_g (lw_at lw_m5 31 rfl) rfl
theorem q1058 : (Jvm.Cond.methodLink "HedgehogLotsLaw" (21 : Nat) ({ cls := "HedgehogLotsModel", name := "end", desc := "(I)I" } : Jvm.MethodName)) ∈ lw_all := lw_g (lw_at lw_m5 39 rfl) rfl
theorem q1062 : (Jvm.Cond.methodLink "HedgehogLotsLaw" (26 : Nat) ({ cls := "HedgehogLotsModel", name := "text", desc := "()I" } : Jvm.MethodName)) ∈ lw_all := lw_g (lw_at lw_m5 43 rfl) rfl
theorem q1111 : (Jvm.Cond.methodLink "HedgehogLotsLaw" (30 : Nat) ({ cls := "HedgehogLotsModel", name := "fault", desc := "()I" } : Jvm.MethodName)) ∈ lw_all := lw_g (lw_at lw_m5 92 rfl) rfl
theorem q1115 : (Jvm.Cond.methodLink "HedgehogLotsLaw" (34 : Nat) ({ cls := "HedgehogLotsModel", name := "rule", desc := "(I)I" } : Jvm.MethodName)) ∈ lw_all := lw_g (lw_at lw_m5 96 rfl) rfl
theorem q1145 : (Jvm.Cond.methodLink "HedgehogLotsLaw" (39 : Nat) ({ cls := "HedgehogLotsModel", name := "peg", desc := "(II)I" } : Jvm.MethodName)) ∈ lw_all := lw_g (lw_at lw_m5 126 rfl) rfl
theorem q1154 : (Jvm.Cond.methodLink "HedgehogLotsLaw" (43 : Nat) ({ cls := "HedgehogLotsModel", name := "slug", desc := "(I)I" } : Jvm.MethodName)) ∈ lw_all := lw_g (lw_at lw_m5 135 rfl) rfl
theorem q1158 : (Jvm.Cond.methodLink "HedgehogLotsLaw" (47 : Nat) ({ cls := "HedgehogLotsModel", name := "hedgehog", desc := "(II)I" } : Jvm.MethodName)) ∈ lw_all := lw_g (lw_at lw_m5 139 rfl) rfl
theorem q1167 : (Jvm.Cond.methodLink "HedgehogLotsLaw" (51 : Nat) ({ cls := "HedgehogLotsModel", name := "suit", desc := "(II)I" } : Jvm.MethodName)) ∈ lw_all := lw_g (lw_at lw_m5 148 rfl) rfl
theorem q1175 : (Jvm.Cond.methodLink "HedgehogLotsLaw" (55 : Nat) ({ cls := "HedgehogLotsModel", name := "shift", desc := "(II)I" } : Jvm.MethodName)) ∈ lw_all := lw_g (lw_at lw_m5 156 rfl) rfl
theorem q1190 : (Jvm.Cond.methodLink "HedgehogLotsLaw" (59 : Nat) ({ cls := "HedgehogLotsModel", name := "rag", desc := "(II)I" } : Jvm.MethodName)) ∈ lw_all := lw_g (lw_at lw_m5 171 rfl) rfl
theorem q1197 : (Jvm.Cond.methodLink "HedgehogLotsLaw" (64 : Nat) ({ cls := "HedgehogLotsModel", name := "alter", desc := "(III)I" } : Jvm.MethodName)) ∈ lw_all := lw_g (lw_at lw_m5 178 rfl) rfl
theorem q1202 : (Jvm.Cond.methodLink "HedgehogLotsLaw" (68 : Nat) ({ cls := "HedgehogLotsModel", name := "drive", desc := "(II)I" } : Jvm.MethodName)) ∈ lw_all := lw_g (lw_at lw_m5 183 rfl) rfl
theorem q1214 : (Jvm.Cond.methodLink "HedgehogLotsLaw" (72 : Nat) ({ cls := "HedgehogLotsModel", name := "lay", desc := "(I)I" } : Jvm.MethodName)) ∈ lw_all := lw_g (lw_at lw_m5 195 rfl) rfl
theorem q1222 : (Jvm.Cond.methodLink "HedgehogLotsLaw" (76 : Nat) ({ cls := "HedgehogLotsModel", name := "clear", desc := "(I)I" } : Jvm.MethodName)) ∈ lw_all := lw_g (lw_at lw_m5 203 rfl) rfl
theorem q1226 : (Jvm.Cond.methodLink "HedgehogLotsLaw" (80 : Nat) ({ cls := "HedgehogLotsModel", name := "sue", desc := "(II)I" } : Jvm.MethodName)) ∈ lw_all := lw_g (lw_at lw_m5 207 rfl) rfl
theorem q1234 : (Jvm.Cond.methodLink "HedgehogLotsLaw" (84 : Nat) ({ cls := "HedgehogLotsModel", name := "drop", desc := "(I)I" } : Jvm.MethodName)) ∈ lw_all := lw_g (lw_at lw_m5 215 rfl) rfl
theorem q1238 : (Jvm.Cond.methodLink "HedgehogLotsLaw" (88 : Nat) ({ cls := "HedgehogLotsModel", name := "run", desc := "(III)I" } : Jvm.MethodName)) ∈ lw_all := lw_g (lw_at lw_m5 219 rfl) rfl
theorem q1243 : (Jvm.Cond.methodLink "HedgehogLotsLaw" (92 : Nat) ({ cls := "HedgehogLotsModel", name := "way", desc := "(III)I" } : Jvm.MethodName)) ∈ lw_all := lw_g (lw_at lw_m5 224 rfl) rfl
theorem q1247 : (Jvm.Cond.methodLink "HedgehogLotsLaw" (96 : Nat) ({ cls := "HedgehogLotsModel", name := "wins", desc := "(I)I" } : Jvm.MethodName)) ∈ lw_all := lw_g (lw_at lw_m5 228 rfl) rfl
theorem q1251 : (Jvm.Cond.methodLink "HedgehogLotsLaw" (100 : Nat) ({ cls := "HedgehogLotsModel", name := "share", desc := "(II)I" } : Jvm.MethodName)) ∈ lw_all := lw_g (lw_at lw_m5 232 rfl) rfl
theorem q1255 : (Jvm.Cond.methodLink "HedgehogLotsLaw" (104 : Nat) ({ cls := "HedgehogLotsModel", name := "first", desc := "(II)I" } : Jvm.MethodName)) ∈ lw_all := lw_g (lw_at lw_m5 236 rfl) rfl
theorem q1259 : (Jvm.Cond.methodLink "HedgehogLotsLaw" (108 : Nat) ({ cls := "HedgehogLotsModel", name := "kindly", desc := "(III)I" } : Jvm.MethodName)) ∈ lw_all := lw_g (lw_at lw_m6 0 rfl) rfl
theorem q1267 : (Jvm.Cond.methodLink "HedgehogLotsLaw" (112 : Nat) ({ cls := "HedgehogLotsModel", name := "place", desc := "(II)I" } : Jvm.MethodName)) ∈ lw_all := lw_g (lw_at lw_m6 8 rfl) rfl
theorem q1274 : (Jvm.Cond.methodLink "HedgehogLotsLaw" (116 : Nat) ({ cls := "HedgehogLotsModel", name := "move", desc := "(II)I" } : Jvm.MethodName)) ∈ lw_all := lw_g (lw_at lw_m6 15 rfl) rfl
theorem q1278 : (Jvm.Cond.methodLink "HedgehogLotsLaw" (120 : Nat) ({ cls := "HedgehogLotsModel", name := "bribe", desc := "(II)I" } : Jvm.MethodName)) ∈ lw_all := lw_g (lw_at lw_m6 19 rfl) rfl
theorem q1282 : (Jvm.Cond.methodLink "HedgehogLotsLaw" (124 : Nat) ({ cls := "HedgehogLotsModel", name := "need", desc := "(II)I" } : Jvm.MethodName)) ∈ lw_all := lw_g (lw_at lw_m6 23 rfl) rfl
theorem q1286 : (Jvm.Cond.methodLink "HedgehogLotsLaw" (128 : Nat) ({ cls := "HedgehogLotsModel", name := "swap", desc := "(II)I" } : Jvm.MethodName)) ∈ lw_all := lw_g (lw_at lw_m6 27 rfl) rfl
theorem q1290 : (Jvm.Cond.methodLink "HedgehogLotsLaw" (132 : Nat) ({ cls := "HedgehogLotsModel", name := "pull", desc := "(II)I" } : Jvm.MethodName)) ∈ lw_all := lw_g (lw_at lw_m6 31 rfl) rfl
theorem q1294 : (Jvm.Cond.methodLink "HedgehogLotsLaw" (137 : Nat) ({ cls := "HedgehogLotsModel", name := "luck", desc := "(IIIII)J" } : Jvm.MethodName)) ∈ lw_all := lw_g (lw_at lw_m6 35 rfl) rfl
theorem q1308 : (Jvm.Cond.methodLink "HedgehogLotsLaw" (142 : Nat) ({ cls := "HedgehogLotsModel", name := "mean", desc := "(IIII)J" } : Jvm.MethodName)) ∈ lw_all := lw_g (lw_at lw_m6 49 rfl) rfl
theorem q1312 : (Jvm.Cond.methodLink "HedgehogLotsLaw" (146 : Nat) ({ cls := "HedgehogLotsModel", name := "see", desc := "(III)I" } : Jvm.MethodName)) ∈ lw_all := lw_g (lw_at lw_m6 53 rfl) rfl
theorem q1316 : (Jvm.Cond.methodLink "HedgehogLotsLaw" (150 : Nat) ({ cls := "HedgehogLotsModel", name := "forget", desc := "(I)I" } : Jvm.MethodName)) ∈ lw_all := lw_g (lw_at lw_m6 57 rfl) rfl
theorem q1320 : (Jvm.Cond.methodLink "HedgehogLotsLaw" (154 : Nat) ({ cls := "HedgehogLotsModel", name := "kinds", desc := "(I)I" } : Jvm.MethodName)) ∈ lw_all := lw_g (lw_at lw_m6 61 rfl) rfl
theorem q1328 : (Jvm.Cond.methodLink "HedgehogLotsLaw" (158 : Nat) ({ cls := "HedgehogLotsModel", name := "speeds", desc := "(I)I" } : Jvm.MethodName)) ∈ lw_all := lw_g (lw_at lw_m6 69 rfl) rfl
theorem q1336 : (Jvm.Cond.methodLink "HedgehogLotsLaw" (162 : Nat) ({ cls := "HedgehogLotsModel", name := "ask", desc := "(II)I" } : Jvm.MethodName)) ∈ lw_all := lw_g (lw_at lw_m6 77 rfl) rfl
theorem q1340 : (Jvm.Cond.methodLink "HedgehogLotsLaw" (166 : Nat) ({ cls := "HedgehogLotsModel", name := "drift", desc := "(III)I" } : Jvm.MethodName)) ∈ lw_all := lw_g (lw_at lw_m6 81 rfl) rfl
theorem q1346 : (Jvm.Cond.methodLink "HedgehogLotsLaw" (170 : Nat) ({ cls := "HedgehogLotsModel", name := "keep", desc := "(I)I" } : Jvm.MethodName)) ∈ lw_all := lw_g (lw_at lw_m6 87 rfl) rfl
theorem q1350 : (Jvm.Cond.methodLink "HedgehogLotsLaw" (174 : Nat) ({ cls := "HedgehogLotsModel", name := "back", desc := "(I)I" } : Jvm.MethodName)) ∈ lw_all := lw_g (lw_at lw_m6 91 rfl) rfl
theorem q1354 : (Jvm.Cond.methodLink "HedgehogLotsLaw" (178 : Nat) ({ cls := "HedgehogLotsModel", name := "sheet", desc := "(III)I" } : Jvm.MethodName)) ∈ lw_all := lw_g (lw_at lw_m6 95 rfl) rfl
theorem q1358 : (Jvm.Cond.methodLink "HedgehogLotsLaw" (182 : Nat) ({ cls := "HedgehogLotsModel", name := "write", desc := "(III)I" } : Jvm.MethodName)) ∈ lw_all := lw_g (lw_at lw_m6 99 rfl) rfl
theorem q1362 : (Jvm.Cond.methodLink "HedgehogLotsLaw" (187 : Nat) ({ cls := "HedgehogLotsModel", name := "read", desc := "(IIII)I" } : Jvm.MethodName)) ∈ lw_all := lw_g (lw_at lw_m6 103 rfl) rfl
theorem q1367 : (Jvm.Cond.methodLink "HedgehogLotsLaw" (191 : Nat) ({ cls := "HedgehogLotsModel", name := "torn", desc := "()I" } : Jvm.MethodName)) ∈ lw_all := lw_g (lw_at lw_m6 108 rfl) rfl
theorem q1371 : (Jvm.Cond.methodLink "HedgehogLotsLaw" (195 : Nat) ({ cls := "HedgehogLotsModel", name := "count", desc := "(I)I" } : Jvm.MethodName)) ∈ lw_all := lw_g (lw_at lw_m6 112 rfl) rfl
theorem q77 : (Jvm.Cond.initialized "java/lang/System") ∈ lw_all := lw_g (lw_at lw_m1 18 rfl) rfl
set_option maxRecDepth 100000
theorem q526 : (Jvm.Cond.static ({ cls := "java/lang/System", name := "arraycopy", desc := "(Ljava/lang/Object;ILjava/lang/Object;II)V" } : Jvm.MethodName)) ∈ lw_all := lw_g (lw_at lw_m2 227 rfl) rfl
theorem q527 : (Jvm.Cond.native ({ cls := "java/lang/System", name := "arraycopy", desc := "(Ljava/lang/Object;ILjava/lang/Object;II)V" } : Jvm.MethodName)) ∈ lw_all := lw_g (lw_at lw_m2 228 rfl) rfl
theorem q94 : (Jvm.Cond.arrayOver (Jvm.ClassFile.FieldType.object "HedgehogLots$Plain")) ∈ lw_tbl := lw_at lw_m1 35 rfl
set_option maxRecDepth 100000
theorem q171 : (Jvm.Cond.arrayClass Jvm.ClassFile.FieldType.byte) ∈ lw_all := lw_g (lw_at lw_m1 112 rfl) rfl
theorem q172 : (Jvm.Cond.arrayOver (Jvm.ClassFile.FieldType.object "HedgehogLots$Slope")) ∈ lw_tbl := lw_at lw_m1 113 rfl
theorem q174 : (Jvm.Cond.arrayOver (Jvm.ClassFile.FieldType.object "HedgehogLots$Sheet")) ∈ lw_tbl := lw_at lw_m1 115 rfl
theorem q870 : (Jvm.Cond.arrayClass Jvm.ClassFile.FieldType.short) ∈ lw_all := lw_g (lw_at lw_m4 91 rfl) rfl
theorem q871 : (Jvm.Cond.arrayClass Jvm.ClassFile.FieldType.int) ∈ lw_all := lw_g (lw_at lw_m4 92 rfl) rfl
theorem q1049 : (Jvm.Cond.arrayClass Jvm.ClassFile.FieldType.boolean) ∈ lw_all := lw_g (lw_at lw_m5 30 rfl) rfl
