/-! DeadlineTree$Node -/
set_option maxRecDepth 100000
def RX2 : String := "DeadlineTree$Node"
def TX2 : u_T := fun k => match k with
  | 0 => ("DeadlineTree$Node", "index", "I", true)
  | 1 => ("DeadlineTree$Node", "left", "LDeadlineTree$Node;", false)
  | 2 => ("DeadlineTree$Node", "right", "LDeadlineTree$Node;", false)
  | 3 => ("DeadlineTree$Node", "start", "I", false)
  | 4 => ("DeadlineTree$Node", "number", "I", false)
  | 5 => ("DeadlineTree$Node", "hold", "I", false)
  | _ => ("DeadlineTree$Node", "leaves", "I", false)
def tyX2 : Nat → FieldType := fun k => match k with
  | 0 => .int
  | 1 => .object "DeadlineTree$Node"
  | 2 => .object "DeadlineTree$Node"
  | 3 => .int
  | 4 => .int
  | 5 => .int
  | _ => .int
abbrev wsX20 : List Cond := u_ws RX2 TX2 7
theorem nmX2 : ∀ a, a < 7 → ∀ b, b < 7 → a ≠ b → (TX2 a).2.1 ≠ (TX2 b).2.1 := by decide +kernel
theorem tyX2_ok : ∀ k, k < 7 → parseFieldDescriptor (TX2 k).2.2.1 = some (tyX2 k) := by decide +kernel
abbrev cX2_init : ByteArray := prog_5_method_1_code
def yX2_init : MethodName := ⟨RX2, "<init>", "(I)V"⟩
def dkwX2_init_0 : List UInt8 := [42, 183, 0, 1, 42, 27, 181, 0, 7, 177]
abbrev dktX2_init_0 : List UInt8 := dkwX2_init_0 ++ []
theorem dksX2_init_0 : cX2_init.data.toList.drop 0 = dktX2_init_0 := by decide +kernel
theorem dX2_init_0 : decode cX2_init 0 = .ok (.aload_n 0, 1) := dk_42 (dk_at dksX2_init_0 0 rfl rfl)
theorem dX2_init_1 : decode cX2_init 1 = .ok (.invokespecial 1, 3) := dk_183 0 1 (dk_at dksX2_init_0 1 rfl rfl)
theorem dX2_init_4 : decode cX2_init 4 = .ok (.aload_n 0, 1) := dk_42 (dk_at dksX2_init_0 4 rfl rfl)
theorem dX2_init_5 : decode cX2_init 5 = .ok (.iload_n 1, 1) := dk_27 (dk_at dksX2_init_0 5 rfl rfl)
theorem dX2_init_6 : decode cX2_init 6 = .ok (.putfield 7, 3) := dk_181 0 7 (dk_at dksX2_init_0 6 rfl rfl)
theorem dX2_init_9 : decode cX2_init 9 = .ok (.return_, 1) := dk_177 (dk_at dksX2_init_0 9 rfl rfl)
abbrev cX2_isLeaf : ByteArray := prog_5_method_2_code
def yX2_isLeaf : MethodName := ⟨RX2, "isLeaf", "()Z"⟩
def dkwX2_isLeaf_0 : List UInt8 := [42, 180, 0, 13, 199, 0, 7, 4, 167, 0, 4, 3, 172]
abbrev dktX2_isLeaf_0 : List UInt8 := dkwX2_isLeaf_0 ++ []
theorem dksX2_isLeaf_0 : cX2_isLeaf.data.toList.drop 0 = dktX2_isLeaf_0 := by decide +kernel
theorem dX2_isLeaf_0 : decode cX2_isLeaf 0 = .ok (.aload_n 0, 1) := dk_42 (dk_at dksX2_isLeaf_0 0 rfl rfl)
theorem dX2_isLeaf_1 : decode cX2_isLeaf 1 = .ok (.getfield 13, 3) := dk_180 0 13 (dk_at dksX2_isLeaf_0 1 rfl rfl)
theorem dX2_isLeaf_4 : decode cX2_isLeaf 4 = .ok (.ifnonnull 7, 3) := dk_199 0 7 (dk_at dksX2_isLeaf_0 4 rfl rfl)
theorem dX2_isLeaf_7 : decode cX2_isLeaf 7 = .ok (.iconst 1, 1) := dk_4 (dk_at dksX2_isLeaf_0 7 rfl rfl)
theorem dX2_isLeaf_8 : decode cX2_isLeaf 8 = .ok (.goto 4, 3) := dk_167 0 4 (dk_at dksX2_isLeaf_0 8 rfl rfl)
theorem dX2_isLeaf_11 : decode cX2_isLeaf 11 = .ok (.iconst 0, 1) := dk_3 (dk_at dksX2_isLeaf_0 11 rfl rfl)
theorem dX2_isLeaf_12 : decode cX2_isLeaf 12 = .ok (.ireturn, 1) := dk_172 (dk_at dksX2_isLeaf_0 12 rfl rfl)
abbrev cX2_part : ByteArray := prog_5_method_4_code
def yX2_part : MethodName := ⟨RX2, "part", "(II)LDeadlineTree$Node;"⟩
def dkwX2_part_0 : List UInt8 := [42, 27, 28, 182, 0, 23, 153, 0, 10, 42, 180, 0, 13, 167, 0, 7, 42, 180, 0, 27, 176]
abbrev dktX2_part_0 : List UInt8 := dkwX2_part_0 ++ []
theorem dksX2_part_0 : cX2_part.data.toList.drop 0 = dktX2_part_0 := by decide +kernel
theorem dX2_part_0 : decode cX2_part 0 = .ok (.aload_n 0, 1) := dk_42 (dk_at dksX2_part_0 0 rfl rfl)
theorem dX2_part_1 : decode cX2_part 1 = .ok (.iload_n 1, 1) := dk_27 (dk_at dksX2_part_0 1 rfl rfl)
theorem dX2_part_2 : decode cX2_part 2 = .ok (.iload_n 2, 1) := dk_28 (dk_at dksX2_part_0 2 rfl rfl)
theorem dX2_part_3 : decode cX2_part 3 = .ok (.invokevirtual 23, 3) := dk_182 0 23 (dk_at dksX2_part_0 3 rfl rfl)
theorem dX2_part_6 : decode cX2_part 6 = .ok (.ifCond .eq 10, 3) := dk_153 0 10 (dk_at dksX2_part_0 6 rfl rfl)
theorem dX2_part_9 : decode cX2_part 9 = .ok (.aload_n 0, 1) := dk_42 (dk_at dksX2_part_0 9 rfl rfl)
theorem dX2_part_10 : decode cX2_part 10 = .ok (.getfield 13, 3) := dk_180 0 13 (dk_at dksX2_part_0 10 rfl rfl)
theorem dX2_part_13 : decode cX2_part 13 = .ok (.goto 7, 3) := dk_167 0 7 (dk_at dksX2_part_0 13 rfl rfl)
theorem dX2_part_16 : decode cX2_part 16 = .ok (.aload_n 0, 1) := dk_42 (dk_at dksX2_part_0 16 rfl rfl)
theorem dX2_part_17 : decode cX2_part 17 = .ok (.getfield 27, 3) := dk_180 0 27 (dk_at dksX2_part_0 17 rfl rfl)
theorem dX2_part_20 : decode cX2_part 20 = .ok (.areturn, 1) := dk_176 (dk_at dksX2_part_0 20 rfl rfl)
abbrev cX2_goesLeft : ByteArray := prog_5_method_3_code
def yX2_goesLeft : MethodName := ⟨RX2, "goesLeft", "(II)Z"⟩
def dkwX2_goesLeft_1 : List UInt8 := [4, 167, 0, 4, 3, 172]
abbrev dktX2_goesLeft_1 : List UInt8 := dkwX2_goesLeft_1 ++ []
def dkwX2_goesLeft_0 : List UInt8 := [27, 42, 180, 0, 17, 161, 0, 19, 27, 42, 180, 0, 17, 160, 0, 15, 28, 42, 180, 0, 20, 163, 0, 7]
abbrev dktX2_goesLeft_0 : List UInt8 := dkwX2_goesLeft_0 ++ dktX2_goesLeft_1
theorem dksX2_goesLeft_0 : cX2_goesLeft.data.toList.drop 0 = dktX2_goesLeft_0 := by decide +kernel
theorem dksX2_goesLeft_1 : cX2_goesLeft.data.toList.drop 24 = dktX2_goesLeft_1 := dk_seg dksX2_goesLeft_0 24 rfl rfl
theorem dX2_goesLeft_0 : decode cX2_goesLeft 0 = .ok (.iload_n 1, 1) := dk_27 (dk_at dksX2_goesLeft_0 0 rfl rfl)
theorem dX2_goesLeft_1 : decode cX2_goesLeft 1 = .ok (.aload_n 0, 1) := dk_42 (dk_at dksX2_goesLeft_0 1 rfl rfl)
theorem dX2_goesLeft_2 : decode cX2_goesLeft 2 = .ok (.getfield 17, 3) := dk_180 0 17 (dk_at dksX2_goesLeft_0 2 rfl rfl)
theorem dX2_goesLeft_5 : decode cX2_goesLeft 5 = .ok (.if_icmp .lt 19, 3) := dk_161 0 19 (dk_at dksX2_goesLeft_0 5 rfl rfl)
theorem dX2_goesLeft_8 : decode cX2_goesLeft 8 = .ok (.iload_n 1, 1) := dk_27 (dk_at dksX2_goesLeft_0 8 rfl rfl)
theorem dX2_goesLeft_9 : decode cX2_goesLeft 9 = .ok (.aload_n 0, 1) := dk_42 (dk_at dksX2_goesLeft_0 9 rfl rfl)
theorem dX2_goesLeft_10 : decode cX2_goesLeft 10 = .ok (.getfield 17, 3) := dk_180 0 17 (dk_at dksX2_goesLeft_0 10 rfl rfl)
theorem dX2_goesLeft_13 : decode cX2_goesLeft 13 = .ok (.if_icmp .ne 15, 3) := dk_160 0 15 (dk_at dksX2_goesLeft_0 13 rfl rfl)
theorem dX2_goesLeft_16 : decode cX2_goesLeft 16 = .ok (.iload_n 2, 1) := dk_28 (dk_at dksX2_goesLeft_0 16 rfl rfl)
theorem dX2_goesLeft_17 : decode cX2_goesLeft 17 = .ok (.aload_n 0, 1) := dk_42 (dk_at dksX2_goesLeft_0 17 rfl rfl)
theorem dX2_goesLeft_18 : decode cX2_goesLeft 18 = .ok (.getfield 20, 3) := dk_180 0 20 (dk_at dksX2_goesLeft_0 18 rfl rfl)
theorem dX2_goesLeft_21 : decode cX2_goesLeft 21 = .ok (.if_icmp .gt 7, 3) := dk_163 0 7 (dk_at dksX2_goesLeft_0 21 rfl rfl)
theorem dX2_goesLeft_24 : decode cX2_goesLeft 24 = .ok (.iconst 1, 1) := dk_4 (dk_at dksX2_goesLeft_1 0 rfl rfl)
theorem dX2_goesLeft_25 : decode cX2_goesLeft 25 = .ok (.goto 4, 3) := dk_167 0 4 (dk_at dksX2_goesLeft_1 1 rfl rfl)
theorem dX2_goesLeft_28 : decode cX2_goesLeft 28 = .ok (.iconst 0, 1) := dk_3 (dk_at dksX2_goesLeft_1 4 rfl rfl)
theorem dX2_goesLeft_29 : decode cX2_goesLeft 29 = .ok (.ireturn, 1) := dk_172 (dk_at dksX2_goesLeft_1 5 rfl rfl)
abbrev cX2_leans : ByteArray := prog_5_method_5_code
def yX2_leans : MethodName := ⟨RX2, "leans", "()Z"⟩
def dkwX2_leans_1 : List UInt8 := [27, 100, 104, 4, 96, 164, 0, 7, 4, 167, 0, 4, 3, 172]
abbrev dktX2_leans_1 : List UInt8 := dkwX2_leans_1 ++ []
def dkwX2_leans_0 : List UInt8 := [42, 180, 0, 13, 180, 0, 30, 42, 180, 0, 27, 180, 0, 30, 184, 0, 33, 60, 27, 5, 42, 180, 0, 30]
abbrev dktX2_leans_0 : List UInt8 := dkwX2_leans_0 ++ dktX2_leans_1
theorem dksX2_leans_0 : cX2_leans.data.toList.drop 0 = dktX2_leans_0 := by decide +kernel
theorem dksX2_leans_1 : cX2_leans.data.toList.drop 24 = dktX2_leans_1 := dk_seg dksX2_leans_0 24 rfl rfl
theorem dX2_leans_0 : decode cX2_leans 0 = .ok (.aload_n 0, 1) := dk_42 (dk_at dksX2_leans_0 0 rfl rfl)
theorem dX2_leans_1 : decode cX2_leans 1 = .ok (.getfield 13, 3) := dk_180 0 13 (dk_at dksX2_leans_0 1 rfl rfl)
theorem dX2_leans_4 : decode cX2_leans 4 = .ok (.getfield 30, 3) := dk_180 0 30 (dk_at dksX2_leans_0 4 rfl rfl)
theorem dX2_leans_7 : decode cX2_leans 7 = .ok (.aload_n 0, 1) := dk_42 (dk_at dksX2_leans_0 7 rfl rfl)
theorem dX2_leans_8 : decode cX2_leans 8 = .ok (.getfield 27, 3) := dk_180 0 27 (dk_at dksX2_leans_0 8 rfl rfl)
theorem dX2_leans_11 : decode cX2_leans 11 = .ok (.getfield 30, 3) := dk_180 0 30 (dk_at dksX2_leans_0 11 rfl rfl)
theorem dX2_leans_14 : decode cX2_leans 14 = .ok (.invokestatic 33, 3) := dk_184 0 33 (dk_at dksX2_leans_0 14 rfl rfl)
theorem dX2_leans_17 : decode cX2_leans 17 = .ok (.istore_n 1, 1) := dk_60 (dk_at dksX2_leans_0 17 rfl rfl)
theorem dX2_leans_18 : decode cX2_leans 18 = .ok (.iload_n 1, 1) := dk_27 (dk_at dksX2_leans_0 18 rfl rfl)
theorem dX2_leans_19 : decode cX2_leans 19 = .ok (.iconst 2, 1) := dk_5 (dk_at dksX2_leans_0 19 rfl rfl)
theorem dX2_leans_20 : decode cX2_leans 20 = .ok (.aload_n 0, 1) := dk_42 (dk_at dksX2_leans_0 20 rfl rfl)
theorem dX2_leans_21 : decode cX2_leans 21 = .ok (.getfield 30, 3) := dk_180 0 30 (dk_at dksX2_leans_0 21 rfl rfl)
theorem dX2_leans_24 : decode cX2_leans 24 = .ok (.iload_n 1, 1) := dk_27 (dk_at dksX2_leans_1 0 rfl rfl)
theorem dX2_leans_25 : decode cX2_leans 25 = .ok (.isub, 1) := dk_100 (dk_at dksX2_leans_1 1 rfl rfl)
theorem dX2_leans_26 : decode cX2_leans 26 = .ok (.imul, 1) := dk_104 (dk_at dksX2_leans_1 2 rfl rfl)
theorem dX2_leans_27 : decode cX2_leans 27 = .ok (.iconst 1, 1) := dk_4 (dk_at dksX2_leans_1 3 rfl rfl)
theorem dX2_leans_28 : decode cX2_leans 28 = .ok (.iadd, 1) := dk_96 (dk_at dksX2_leans_1 4 rfl rfl)
theorem dX2_leans_29 : decode cX2_leans 29 = .ok (.if_icmp .le 7, 3) := dk_164 0 7 (dk_at dksX2_leans_1 5 rfl rfl)
theorem dX2_leans_32 : decode cX2_leans 32 = .ok (.iconst 1, 1) := dk_4 (dk_at dksX2_leans_1 8 rfl rfl)
theorem dX2_leans_33 : decode cX2_leans 33 = .ok (.goto 4, 3) := dk_167 0 4 (dk_at dksX2_leans_1 9 rfl rfl)
theorem dX2_leans_36 : decode cX2_leans 36 = .ok (.iconst 0, 1) := dk_3 (dk_at dksX2_leans_1 12 rfl rfl)
theorem dX2_leans_37 : decode cX2_leans 37 = .ok (.ireturn, 1) := dk_172 (dk_at dksX2_leans_1 13 rfl rfl)
theorem q72 : (Jvm.Cond.initialized "DeadlineTree$Node") ∈ lw_all := lw_g (lw_at lw_m1 3 rfl) rfl
theorem q108 : (Jvm.Cond.instantiable "DeadlineTree$Node" (7 : Nat)) ∈ lw_all := lw_g (lw_at lw_m1 39 rfl) rfl
theorem q110 : (Jvm.Cond.instanceMethod ({ cls := "DeadlineTree$Node", name := "<init>", desc := "(I)V" } : Jvm.MethodName)) ∈ lw_all := lw_g (lw_at lw_m1 41 rfl) rfl
theorem q111 : (Jvm.Cond.code ({ cls := "DeadlineTree$Node", name := "<init>", desc := "(I)V" } : Jvm.MethodName) prog_5_method_1_code (2 : Nat) (Option.none : Option Jvm.ClassFile.FieldType)) ∈ lw_all := lw_g (lw_at lw_m1 42 rfl) rfl
theorem q112 : (Jvm.Cond.methodLink "DeadlineTree$Node" (1 : Nat) ({ cls := "java/lang/Object", name := "<init>", desc := "()V" } : Jvm.MethodName)) ∈ lw_all := lw_g (lw_at lw_m1 43 rfl) rfl
theorem q113 : (Jvm.Cond.fieldLink "DeadlineTree$Node" (7 : Nat) "DeadlineTree$Node" "index" "I") ∈ lw_all := lw_g (lw_at lw_m1 44 rfl) rfl
theorem q115 : (Jvm.Cond.fieldLink "DeadlineTree$Node" (13 : Nat) "DeadlineTree$Node" "left" "LDeadlineTree$Node;") ∈ lw_all := lw_g (lw_at lw_m1 46 rfl) rfl
theorem q119 : (Jvm.Cond.fieldLink "DeadlineTree$Node" (27 : Nat) "DeadlineTree$Node" "right" "LDeadlineTree$Node;") ∈ lw_all := lw_g (lw_at lw_m1 50 rfl) rfl
theorem q121 : (Jvm.Cond.fieldLink "DeadlineTree$Node" (17 : Nat) "DeadlineTree$Node" "start" "I") ∈ lw_all := lw_g (lw_at lw_m1 52 rfl) rfl
theorem q124 : (Jvm.Cond.fieldLink "DeadlineTree$Node" (20 : Nat) "DeadlineTree$Node" "number" "I") ∈ lw_all := lw_g (lw_at lw_m1 55 rfl) rfl
theorem q130 : (Jvm.Cond.fieldLink "DeadlineTree$Node" (30 : Nat) "DeadlineTree$Node" "leaves" "I") ∈ lw_all := lw_g (lw_at lw_m1 61 rfl) rfl
theorem q132 : (Jvm.Cond.laysFinal "DeadlineTree$Node" "DeadlineTree$Node" "index" "I") ∈ lw_all := lw_g (lw_at lw_m1 63 rfl) rfl
theorem q133 : (Jvm.Cond.soleField "DeadlineTree$Node" "index") ∈ lw_all := lw_g (lw_at lw_m1 64 rfl) rfl
theorem q134 : (Jvm.Cond.lays "DeadlineTree$Node" "DeadlineTree$Node" "left" "LDeadlineTree$Node;") ∈ lw_all := lw_g (lw_at lw_m1 65 rfl) rfl
theorem q135 : (Jvm.Cond.soleField "DeadlineTree$Node" "left") ∈ lw_all := lw_g (lw_at lw_m1 66 rfl) rfl
theorem q136 : (Jvm.Cond.lays "DeadlineTree$Node" "DeadlineTree$Node" "right" "LDeadlineTree$Node;") ∈ lw_all := lw_g (lw_at lw_m1 67 rfl) rfl
theorem q137 : (Jvm.Cond.soleField "DeadlineTree$Node" "right") ∈ lw_all := lw_g (lw_at lw_m1 68 rfl) rfl
theorem q138 : (Jvm.Cond.lays "DeadlineTree$Node" "DeadlineTree$Node" "start" "I") ∈ lw_all := lw_g (lw_at lw_m1 69 rfl) rfl
theorem q139 : (Jvm.Cond.soleField "DeadlineTree$Node" "start") ∈ lw_all := lw_g (lw_at lw_m1 70 rfl) rfl
theorem q140 : (Jvm.Cond.lays "DeadlineTree$Node" "DeadlineTree$Node" "number" "I") ∈ lw_all := lw_g (lw_at lw_m1 71 rfl) rfl
theorem q141 : (Jvm.Cond.soleField "DeadlineTree$Node" "number") ∈ lw_all := lw_g (lw_at lw_m1 72 rfl) rfl
theorem q142 : (Jvm.Cond.lays "DeadlineTree$Node" "DeadlineTree$Node" "hold" "I") ∈ lw_all := lw_g (lw_at lw_m1 73 rfl) rfl
theorem q143 : (Jvm.Cond.soleField "DeadlineTree$Node" "hold") ∈ lw_all := lw_g (lw_at lw_m1 74 rfl) rfl
theorem q144 : (Jvm.Cond.lays "DeadlineTree$Node" "DeadlineTree$Node" "leaves" "I") ∈ lw_all := lw_g (lw_at lw_m1 75 rfl) rfl
theorem q145 : (Jvm.Cond.soleField "DeadlineTree$Node" "leaves") ∈ lw_all := lw_g (lw_at lw_m1 76 rfl) rfl
theorem q146 : (Jvm.Cond.superclass "DeadlineTree$Node" "java/lang/Object") ∈ lw_all := lw_g (lw_at lw_m1 77 rfl) rfl
theorem q423 : (Jvm.Cond.instanceMethod ({ cls := "DeadlineTree$Node", name := "isLeaf", desc := "()Z" } : Jvm.MethodName)) ∈ lw_all := lw_g (lw_at lw_m2 114 rfl) rfl
theorem q424 : (Jvm.Cond.selects "DeadlineTree$Node" ({ cls := "DeadlineTree$Node", name := "isLeaf", desc := "()Z" } : Jvm.MethodName) ({ cls := "DeadlineTree$Node", name := "isLeaf", desc := "()Z" } : Jvm.MethodName)) ∈ lw_all := lw_g (lw_at lw_m2 115 rfl) rfl
theorem q425 : (Jvm.Cond.code ({ cls := "DeadlineTree$Node", name := "isLeaf", desc := "()Z" } : Jvm.MethodName) prog_5_method_2_code (1 : Nat) (Option.some Jvm.ClassFile.FieldType.boolean)) ∈ lw_all := lw_g (lw_at lw_m2 116 rfl) rfl
theorem q431 : (Jvm.Cond.instanceMethod ({ cls := "DeadlineTree$Node", name := "part", desc := "(II)LDeadlineTree$Node;" } : Jvm.MethodName)) ∈ lw_all := lw_g (lw_at lw_m2 122 rfl) rfl
theorem q432 : (Jvm.Cond.selects "DeadlineTree$Node" ({ cls := "DeadlineTree$Node", name := "part", desc := "(II)LDeadlineTree$Node;" } : Jvm.MethodName) ({ cls := "DeadlineTree$Node", name := "part", desc := "(II)LDeadlineTree$Node;" } : Jvm.MethodName)) ∈ lw_all := lw_g (lw_at lw_m2 123 rfl) rfl
theorem q433 : (Jvm.Cond.code ({ cls := "DeadlineTree$Node", name := "part", desc := "(II)LDeadlineTree$Node;" } : Jvm.MethodName) prog_5_method_4_code (3 : Nat) (Option.some (Jvm.ClassFile.FieldType.object "DeadlineTree$Node"))) ∈ lw_all := lw_g (lw_at lw_m2 124 rfl) rfl
theorem q434 : (Jvm.Cond.methodLink "DeadlineTree$Node" (23 : Nat) ({ cls := "DeadlineTree$Node", name := "goesLeft", desc := "(II)Z" } : Jvm.MethodName)) ∈ lw_all := lw_g (lw_at lw_m2 125 rfl) rfl
theorem q435 : (Jvm.Cond.instanceMethod ({ cls := "DeadlineTree$Node", name := "goesLeft", desc := "(II)Z" } : Jvm.MethodName)) ∈ lw_all := lw_g (lw_at lw_m2 126 rfl) rfl
theorem q436 : (Jvm.Cond.selects "DeadlineTree$Node" ({ cls := "DeadlineTree$Node", name := "goesLeft", desc := "(II)Z" } : Jvm.MethodName) ({ cls := "DeadlineTree$Node", name := "goesLeft", desc := "(II)Z" } : Jvm.MethodName)) ∈ lw_all := lw_g (lw_at lw_m2 127 rfl) rfl
theorem q437 : (Jvm.Cond.code ({ cls := "DeadlineTree$Node", name := "goesLeft", desc := "(II)Z" } : Jvm.MethodName) prog_5_method_3_code (3 : Nat) (Option.some Jvm.ClassFile.FieldType.boolean)) ∈ lw_all := lw_g (lw_at lw_m2 128 rfl) rfl
theorem q504 : (Jvm.Cond.instanceMethod ({ cls := "DeadlineTree$Node", name := "leans", desc := "()Z" } : Jvm.MethodName)) ∈ lw_all := lw_g (lw_at lw_m2 195 rfl) rfl
theorem q505 : (Jvm.Cond.selects "DeadlineTree$Node" ({ cls := "DeadlineTree$Node", name := "leans", desc := "()Z" } : Jvm.MethodName) ({ cls := "DeadlineTree$Node", name := "leans", desc := "()Z" } : Jvm.MethodName)) ∈ lw_all := lw_g (lw_at lw_m2 196 rfl) rfl
theorem q506 : (Jvm.Cond.code ({ cls := "DeadlineTree$Node", name := "leans", desc := "()Z" } : Jvm.MethodName) prog_5_method_5_code (2 : Nat) (Option.some Jvm.ClassFile.FieldType.boolean)) ∈ lw_all := lw_g (lw_at lw_m2 197 rfl) rfl
theorem q507 : (Jvm.Cond.methodLink "DeadlineTree$Node" (33 : Nat) ({ cls := "java/lang/Math", name := "max", desc := "(II)I" } : Jvm.MethodName)) ∈ lw_all := lw_g (lw_at lw_m2 198 rfl) rfl
theorem in_X2 : ∀ w ∈ wsX20, w ∈ lw_all := lw_in wsX20 [132, 134, 136, 138, 140, 142, 144] (by decide +kernel) (by decide +kernel)

/-! DeadlineTree$Plain -/
set_option maxRecDepth 100000
def RX3 : String := "DeadlineTree$Plain"
abbrev cX3_init : ByteArray := prog_6_method_1_code
def yX3_init : MethodName := ⟨RX3, "<init>", "()V"⟩
theorem dX3_init_0 : decode cX3_init 0 = .ok (.aload_n 0, 1) := by decide +kernel
theorem dX3_init_1 : decode cX3_init 1 = .ok (.invokespecial 1, 3) := by decide +kernel
theorem dX3_init_4 : decode cX3_init 4 = .ok (.return_, 1) := by decide +kernel
abbrev cX3_rank : ByteArray := prog_6_method_2_code
def yX3_rank : MethodName := ⟨RX3, "rank", "(II)I"⟩
theorem dX3_rank_0 : decode cX3_rank 0 = .ok (.iload_n 1, 1) := by decide +kernel
theorem dX3_rank_1 : decode cX3_rank 1 = .ok (.ireturn, 1) := by decide +kernel
theorem q73 : (Jvm.Cond.initialized "DeadlineTree$Plain") ∈ lw_all := lw_g (lw_at lw_m1 4 rfl) rfl
theorem q196 : (Jvm.Cond.instantiable "DeadlineTree$Plain" (0 : Nat)) ∈ lw_all := lw_g (lw_at lw_m1 127 rfl) rfl
theorem q198 : (Jvm.Cond.instanceMethod ({ cls := "DeadlineTree$Plain", name := "<init>", desc := "()V" } : Jvm.MethodName)) ∈ lw_all := lw_g (lw_at lw_m1 129 rfl) rfl
theorem q199 : (Jvm.Cond.code ({ cls := "DeadlineTree$Plain", name := "<init>", desc := "()V" } : Jvm.MethodName) prog_6_method_1_code (1 : Nat) (Option.none : Option Jvm.ClassFile.FieldType)) ∈ lw_all := lw_g (lw_at lw_m1 130 rfl) rfl
theorem q200 : (Jvm.Cond.methodLink "DeadlineTree$Plain" (1 : Nat) ({ cls := "java/lang/Object", name := "<init>", desc := "()V" } : Jvm.MethodName)) ∈ lw_all := lw_g (lw_at lw_m1 131 rfl) rfl
theorem q201 : (Jvm.Cond.superclass "DeadlineTree$Plain" "java/lang/Object") ∈ lw_all := lw_g (lw_at lw_m1 132 rfl) rfl
theorem q465 : (Jvm.Cond.instanceMethod ({ cls := "DeadlineTree$Plain", name := "rank", desc := "(II)I" } : Jvm.MethodName)) ∈ lw_all := lw_g (lw_at lw_m2 156 rfl) rfl
theorem q466 : (Jvm.Cond.code ({ cls := "DeadlineTree$Plain", name := "rank", desc := "(II)I" } : Jvm.MethodName) prog_6_method_2_code (3 : Nat) (Option.some Jvm.ClassFile.FieldType.int)) ∈ lw_all := lw_g (lw_at lw_m2 157 rfl) rfl
theorem q480 : (Jvm.Cond.castable "DeadlineTree$Plain" "DeadlineTree$Ranked") ∈ lw_tbl := lw_at lw_m2 171 rfl
theorem q481 : (Jvm.Cond.selects "DeadlineTree$Plain" ({ cls := "DeadlineTree$Ranked", name := "rank", desc := "(II)I" } : Jvm.MethodName) ({ cls := "DeadlineTree$Plain", name := "rank", desc := "(II)I" } : Jvm.MethodName)) ∈ lw_all := lw_g (lw_at lw_m2 172 rfl) rfl
theorem q482 : (Jvm.Cond.unhidden "DeadlineTree$Plain" "rank" "(II)I") ∈ lw_tbl := lw_at lw_m2 173 rfl
theorem q483 : (Jvm.Cond.publicMethod ({ cls := "DeadlineTree$Plain", name := "rank", desc := "(II)I" } : Jvm.MethodName)) ∈ lw_tbl := lw_at lw_m2 174 rfl
theorem q497 : (Jvm.Cond.unhidden "DeadlineTree$Plain" "isAhead" "(IIII)Z") ∈ lw_tbl := lw_at lw_m2 188 rfl
theorem q1175 : (Jvm.Cond.sameMethod "DeadlineTree$Plain" "DeadlineTree$Plain" "rank" "(II)I") ∈ lw_all := lw_g (lw_at lw_m5 146 rfl) rfl

/-! DeadlineTree$Urgent -/
set_option maxRecDepth 100000
def RX4 : String := "DeadlineTree$Urgent"
abbrev cX4_init : ByteArray := prog_9_method_1_code
def yX4_init : MethodName := ⟨RX4, "<init>", "()V"⟩
theorem dX4_init_0 : decode cX4_init 0 = .ok (.aload_n 0, 1) := by decide +kernel
theorem dX4_init_1 : decode cX4_init 1 = .ok (.invokespecial 1, 3) := by decide +kernel
theorem dX4_init_4 : decode cX4_init 4 = .ok (.return_, 1) := by decide +kernel
abbrev cX4_rank : ByteArray := prog_9_method_2_code
def yX4_rank : MethodName := ⟨RX4, "rank", "(II)I"⟩
def dkwX4_rank_0 : List UInt8 := [42, 27, 28, 183, 0, 7, 5, 108, 172]
abbrev dktX4_rank_0 : List UInt8 := dkwX4_rank_0 ++ []
theorem dksX4_rank_0 : cX4_rank.data.toList.drop 0 = dktX4_rank_0 := by decide +kernel
theorem dX4_rank_0 : decode cX4_rank 0 = .ok (.aload_n 0, 1) := dk_42 (dk_at dksX4_rank_0 0 rfl rfl)
theorem dX4_rank_1 : decode cX4_rank 1 = .ok (.iload_n 1, 1) := dk_27 (dk_at dksX4_rank_0 1 rfl rfl)
theorem dX4_rank_2 : decode cX4_rank 2 = .ok (.iload_n 2, 1) := dk_28 (dk_at dksX4_rank_0 2 rfl rfl)
theorem dX4_rank_3 : decode cX4_rank 3 = .ok (.invokespecial 7, 3) := dk_183 0 7 (dk_at dksX4_rank_0 3 rfl rfl)
theorem dX4_rank_6 : decode cX4_rank 6 = .ok (.iconst 2, 1) := dk_5 (dk_at dksX4_rank_0 6 rfl rfl)
theorem dX4_rank_7 : decode cX4_rank 7 = .ok (.idiv, 1) := dk_108 (dk_at dksX4_rank_0 7 rfl rfl)
theorem dX4_rank_8 : decode cX4_rank 8 = .ok (.ireturn, 1) := dk_172 (dk_at dksX4_rank_0 8 rfl rfl)
theorem q74 : (Jvm.Cond.initialized "DeadlineTree$Urgent") ∈ lw_all := lw_g (lw_at lw_m1 5 rfl) rfl
theorem q204 : (Jvm.Cond.instantiable "DeadlineTree$Urgent" (0 : Nat)) ∈ lw_all := lw_g (lw_at lw_m1 135 rfl) rfl
theorem q206 : (Jvm.Cond.instanceMethod ({ cls := "DeadlineTree$Urgent", name := "<init>", desc := "()V" } : Jvm.MethodName)) ∈ lw_all := lw_g (lw_at lw_m1 137 rfl) rfl
theorem q207 : (Jvm.Cond.code ({ cls := "DeadlineTree$Urgent", name := "<init>", desc := "()V" } : Jvm.MethodName) prog_9_method_1_code (1 : Nat) (Option.none : Option Jvm.ClassFile.FieldType)) ∈ lw_all := lw_g (lw_at lw_m1 138 rfl) rfl
theorem q208 : (Jvm.Cond.methodLinkNest "DeadlineTree$Urgent" (1 : Nat) ({ cls := "DeadlineTree$Plain", name := "<init>", desc := "()V" } : Jvm.MethodName) "DeadlineTree") ∈ lw_tbl := lw_at lw_m1 139 rfl
theorem q209 : (Jvm.Cond.superclass "DeadlineTree$Urgent" "DeadlineTree$Plain") ∈ lw_all := lw_g (lw_at lw_m1 140 rfl) rfl
theorem q462 : (Jvm.Cond.instanceMethod ({ cls := "DeadlineTree$Urgent", name := "rank", desc := "(II)I" } : Jvm.MethodName)) ∈ lw_all := lw_g (lw_at lw_m2 153 rfl) rfl
theorem q463 : (Jvm.Cond.code ({ cls := "DeadlineTree$Urgent", name := "rank", desc := "(II)I" } : Jvm.MethodName) prog_9_method_2_code (3 : Nat) (Option.some Jvm.ClassFile.FieldType.int)) ∈ lw_all := lw_g (lw_at lw_m2 154 rfl) rfl
theorem q464 : (Jvm.Cond.methodLink "DeadlineTree$Urgent" (7 : Nat) ({ cls := "DeadlineTree$Plain", name := "rank", desc := "(II)I" } : Jvm.MethodName)) ∈ lw_all := lw_g (lw_at lw_m2 155 rfl) rfl
theorem q484 : (Jvm.Cond.castable "DeadlineTree$Urgent" "DeadlineTree$Ranked") ∈ lw_tbl := lw_at lw_m2 175 rfl
theorem q485 : (Jvm.Cond.selects "DeadlineTree$Urgent" ({ cls := "DeadlineTree$Ranked", name := "rank", desc := "(II)I" } : Jvm.MethodName) ({ cls := "DeadlineTree$Urgent", name := "rank", desc := "(II)I" } : Jvm.MethodName)) ∈ lw_all := lw_g (lw_at lw_m2 176 rfl) rfl
theorem q486 : (Jvm.Cond.unhidden "DeadlineTree$Urgent" "rank" "(II)I") ∈ lw_tbl := lw_at lw_m2 177 rfl
theorem q487 : (Jvm.Cond.publicMethod ({ cls := "DeadlineTree$Urgent", name := "rank", desc := "(II)I" } : Jvm.MethodName)) ∈ lw_tbl := lw_at lw_m2 178 rfl
theorem q498 : (Jvm.Cond.unhidden "DeadlineTree$Urgent" "isAhead" "(IIII)Z") ∈ lw_tbl := lw_at lw_m2 189 rfl
theorem q1174 : (Jvm.Cond.sameMethod "DeadlineTree$Urgent" "DeadlineTree$Urgent" "rank" "(II)I") ∈ lw_all := lw_g (lw_at lw_m5 145 rfl) rfl

/-! DeadlineTree$Lax -/
set_option maxRecDepth 100000
def RX5 : String := "DeadlineTree$Lax"
abbrev cX5_init : ByteArray := prog_4_method_1_code
def yX5_init : MethodName := ⟨RX5, "<init>", "()V"⟩
theorem dX5_init_0 : decode cX5_init 0 = .ok (.aload_n 0, 1) := by decide +kernel
theorem dX5_init_1 : decode cX5_init 1 = .ok (.invokespecial 1, 3) := by decide +kernel
theorem dX5_init_4 : decode cX5_init 4 = .ok (.return_, 1) := by decide +kernel
abbrev cX5_rank : ByteArray := prog_4_method_2_code
def yX5_rank : MethodName := ⟨RX5, "rank", "(II)I"⟩
def dkwX5_rank_0 : List UInt8 := [42, 27, 28, 183, 0, 7, 28, 184, 0, 11, 172]
abbrev dktX5_rank_0 : List UInt8 := dkwX5_rank_0 ++ []
theorem dksX5_rank_0 : cX5_rank.data.toList.drop 0 = dktX5_rank_0 := by decide +kernel
theorem dX5_rank_0 : decode cX5_rank 0 = .ok (.aload_n 0, 1) := dk_42 (dk_at dksX5_rank_0 0 rfl rfl)
theorem dX5_rank_1 : decode cX5_rank 1 = .ok (.iload_n 1, 1) := dk_27 (dk_at dksX5_rank_0 1 rfl rfl)
theorem dX5_rank_2 : decode cX5_rank 2 = .ok (.iload_n 2, 1) := dk_28 (dk_at dksX5_rank_0 2 rfl rfl)
theorem dX5_rank_3 : decode cX5_rank 3 = .ok (.invokespecial 7, 3) := dk_183 0 7 (dk_at dksX5_rank_0 3 rfl rfl)
theorem dX5_rank_6 : decode cX5_rank 6 = .ok (.iload_n 2, 1) := dk_28 (dk_at dksX5_rank_0 6 rfl rfl)
theorem dX5_rank_7 : decode cX5_rank 7 = .ok (.invokestatic 11, 3) := dk_184 0 11 (dk_at dksX5_rank_0 7 rfl rfl)
theorem dX5_rank_10 : decode cX5_rank 10 = .ok (.ireturn, 1) := dk_172 (dk_at dksX5_rank_0 10 rfl rfl)
theorem q75 : (Jvm.Cond.initialized "DeadlineTree$Lax") ∈ lw_all := lw_g (lw_at lw_m1 6 rfl) rfl
theorem q211 : (Jvm.Cond.instantiable "DeadlineTree$Lax" (0 : Nat)) ∈ lw_all := lw_g (lw_at lw_m1 142 rfl) rfl
theorem q213 : (Jvm.Cond.instanceMethod ({ cls := "DeadlineTree$Lax", name := "<init>", desc := "()V" } : Jvm.MethodName)) ∈ lw_all := lw_g (lw_at lw_m1 144 rfl) rfl
theorem q214 : (Jvm.Cond.code ({ cls := "DeadlineTree$Lax", name := "<init>", desc := "()V" } : Jvm.MethodName) prog_4_method_1_code (1 : Nat) (Option.none : Option Jvm.ClassFile.FieldType)) ∈ lw_all := lw_g (lw_at lw_m1 145 rfl) rfl
theorem q215 : (Jvm.Cond.methodLinkNest "DeadlineTree$Lax" (1 : Nat) ({ cls := "DeadlineTree$Plain", name := "<init>", desc := "()V" } : Jvm.MethodName) "DeadlineTree") ∈ lw_tbl := lw_at lw_m1 146 rfl
theorem q216 : (Jvm.Cond.superclass "DeadlineTree$Lax" "DeadlineTree$Plain") ∈ lw_all := lw_g (lw_at lw_m1 147 rfl) rfl
theorem q470 : (Jvm.Cond.castable "DeadlineTree$Lax" "DeadlineTree$Ranked") ∈ lw_tbl := lw_at lw_m2 161 rfl
theorem q471 : (Jvm.Cond.selects "DeadlineTree$Lax" ({ cls := "DeadlineTree$Ranked", name := "rank", desc := "(II)I" } : Jvm.MethodName) ({ cls := "DeadlineTree$Lax", name := "rank", desc := "(II)I" } : Jvm.MethodName)) ∈ lw_all := lw_g (lw_at lw_m2 162 rfl) rfl
theorem q472 : (Jvm.Cond.unhidden "DeadlineTree$Lax" "rank" "(II)I") ∈ lw_tbl := lw_at lw_m2 163 rfl
theorem q473 : (Jvm.Cond.instanceMethod ({ cls := "DeadlineTree$Lax", name := "rank", desc := "(II)I" } : Jvm.MethodName)) ∈ lw_all := lw_g (lw_at lw_m2 164 rfl) rfl
theorem q474 : (Jvm.Cond.publicMethod ({ cls := "DeadlineTree$Lax", name := "rank", desc := "(II)I" } : Jvm.MethodName)) ∈ lw_tbl := lw_at lw_m2 165 rfl
theorem q475 : (Jvm.Cond.code ({ cls := "DeadlineTree$Lax", name := "rank", desc := "(II)I" } : Jvm.MethodName) prog_4_method_2_code (3 : Nat) (Option.some Jvm.ClassFile.FieldType.int)) ∈ lw_all := lw_g (lw_at lw_m2 166 rfl) rfl
theorem q476 : (Jvm.Cond.methodLink "DeadlineTree$Lax" (7 : Nat) ({ cls := "DeadlineTree$Plain", name := "rank", desc := "(II)I" } : Jvm.MethodName)) ∈ lw_all := lw_g (lw_at lw_m2 167 rfl) rfl
theorem q477 : (Jvm.Cond.methodLink "DeadlineTree$Lax" (11 : Nat) ({ cls := "java/lang/Math", name := "addExact", desc := "(II)I" } : Jvm.MethodName)) ∈ lw_all := lw_g (lw_at lw_m2 168 rfl) rfl
theorem q496 : (Jvm.Cond.unhidden "DeadlineTree$Lax" "isAhead" "(IIII)Z") ∈ lw_tbl := lw_at lw_m2 187 rfl

/-! DeadlineTree$Dire -/
set_option maxRecDepth 100000
def RX6 : String := "DeadlineTree$Dire"
abbrev cX6_init : ByteArray := prog_2_method_1_code
def yX6_init : MethodName := ⟨RX6, "<init>", "()V"⟩
theorem dX6_init_0 : decode cX6_init 0 = .ok (.aload_n 0, 1) := by decide +kernel
theorem dX6_init_1 : decode cX6_init 1 = .ok (.invokespecial 1, 3) := by decide +kernel
theorem dX6_init_4 : decode cX6_init 4 = .ok (.return_, 1) := by decide +kernel
abbrev cX6_rank : ByteArray := prog_2_method_2_code
def yX6_rank : MethodName := ⟨RX6, "rank", "(II)I"⟩
def dkwX6_rank_0 : List UInt8 := [3, 42, 27, 28, 183, 0, 7, 28, 100, 184, 0, 11, 172]
abbrev dktX6_rank_0 : List UInt8 := dkwX6_rank_0 ++ []
theorem dksX6_rank_0 : cX6_rank.data.toList.drop 0 = dktX6_rank_0 := by decide +kernel
theorem dX6_rank_0 : decode cX6_rank 0 = .ok (.iconst 0, 1) := dk_3 (dk_at dksX6_rank_0 0 rfl rfl)
theorem dX6_rank_1 : decode cX6_rank 1 = .ok (.aload_n 0, 1) := dk_42 (dk_at dksX6_rank_0 1 rfl rfl)
theorem dX6_rank_2 : decode cX6_rank 2 = .ok (.iload_n 1, 1) := dk_27 (dk_at dksX6_rank_0 2 rfl rfl)
theorem dX6_rank_3 : decode cX6_rank 3 = .ok (.iload_n 2, 1) := dk_28 (dk_at dksX6_rank_0 3 rfl rfl)
theorem dX6_rank_4 : decode cX6_rank 4 = .ok (.invokespecial 7, 3) := dk_183 0 7 (dk_at dksX6_rank_0 4 rfl rfl)
theorem dX6_rank_7 : decode cX6_rank 7 = .ok (.iload_n 2, 1) := dk_28 (dk_at dksX6_rank_0 7 rfl rfl)
theorem dX6_rank_8 : decode cX6_rank 8 = .ok (.isub, 1) := dk_100 (dk_at dksX6_rank_0 8 rfl rfl)
theorem dX6_rank_9 : decode cX6_rank 9 = .ok (.invokestatic 11, 3) := dk_184 0 11 (dk_at dksX6_rank_0 9 rfl rfl)
theorem dX6_rank_12 : decode cX6_rank 12 = .ok (.ireturn, 1) := dk_172 (dk_at dksX6_rank_0 12 rfl rfl)
theorem q76 : (Jvm.Cond.initialized "DeadlineTree$Dire") ∈ lw_all := lw_g (lw_at lw_m1 7 rfl) rfl
theorem q218 : (Jvm.Cond.instantiable "DeadlineTree$Dire" (0 : Nat)) ∈ lw_all := lw_g (lw_at lw_m1 149 rfl) rfl
theorem q220 : (Jvm.Cond.instanceMethod ({ cls := "DeadlineTree$Dire", name := "<init>", desc := "()V" } : Jvm.MethodName)) ∈ lw_all := lw_g (lw_at lw_m1 151 rfl) rfl
theorem q221 : (Jvm.Cond.code ({ cls := "DeadlineTree$Dire", name := "<init>", desc := "()V" } : Jvm.MethodName) prog_2_method_1_code (1 : Nat) (Option.none : Option Jvm.ClassFile.FieldType)) ∈ lw_all := lw_g (lw_at lw_m1 152 rfl) rfl
theorem q222 : (Jvm.Cond.methodLinkNest "DeadlineTree$Dire" (1 : Nat) ({ cls := "DeadlineTree$Urgent", name := "<init>", desc := "()V" } : Jvm.MethodName) "DeadlineTree") ∈ lw_tbl := lw_at lw_m1 153 rfl
theorem q223 : (Jvm.Cond.superclass "DeadlineTree$Dire" "DeadlineTree$Urgent") ∈ lw_all := lw_g (lw_at lw_m1 154 rfl) rfl
theorem q455 : (Jvm.Cond.castable "DeadlineTree$Dire" "DeadlineTree$Ranked") ∈ lw_tbl := lw_at lw_m2 146 rfl
theorem q456 : (Jvm.Cond.selects "DeadlineTree$Dire" ({ cls := "DeadlineTree$Ranked", name := "rank", desc := "(II)I" } : Jvm.MethodName) ({ cls := "DeadlineTree$Dire", name := "rank", desc := "(II)I" } : Jvm.MethodName)) ∈ lw_all := lw_g (lw_at lw_m2 147 rfl) rfl
theorem q457 : (Jvm.Cond.unhidden "DeadlineTree$Dire" "rank" "(II)I") ∈ lw_tbl := lw_at lw_m2 148 rfl
theorem q458 : (Jvm.Cond.instanceMethod ({ cls := "DeadlineTree$Dire", name := "rank", desc := "(II)I" } : Jvm.MethodName)) ∈ lw_all := lw_g (lw_at lw_m2 149 rfl) rfl
theorem q459 : (Jvm.Cond.publicMethod ({ cls := "DeadlineTree$Dire", name := "rank", desc := "(II)I" } : Jvm.MethodName)) ∈ lw_tbl := lw_at lw_m2 150 rfl
theorem q460 : (Jvm.Cond.code ({ cls := "DeadlineTree$Dire", name := "rank", desc := "(II)I" } : Jvm.MethodName) prog_2_method_2_code (3 : Nat) (Option.some Jvm.ClassFile.FieldType.int)) ∈ lw_all := lw_g (lw_at lw_m2 151 rfl) rfl
theorem q461 : (Jvm.Cond.methodLink "DeadlineTree$Dire" (7 : Nat) ({ cls := "DeadlineTree$Urgent", name := "rank", desc := "(II)I" } : Jvm.MethodName)) ∈ lw_all := lw_g (lw_at lw_m2 152 rfl) rfl
theorem q467 : (Jvm.Cond.methodLink "DeadlineTree$Dire" (11 : Nat) ({ cls := "java/lang/Math", name := "max", desc := "(II)I" } : Jvm.MethodName)) ∈ lw_all := lw_g (lw_at lw_m2 158 rfl) rfl
theorem q492 : (Jvm.Cond.unhidden "DeadlineTree$Dire" "isAhead" "(IIII)Z") ∈ lw_tbl := lw_at lw_m2 183 rfl

/-! DeadlineTree$Fault -/
set_option maxRecDepth 100000
def RX7 : String := "DeadlineTree$Fault"
def TX7 : u_T := fun k => match k with
  | 0 => ("java/lang/Throwable", "cause", "Ljava/lang/Throwable;", false)
  | 1 => ("java/lang/Throwable", "stackTrace", "[Ljava/lang/StackTraceElement;", false)
  | 2 => ("java/lang/Throwable", "suppressedExceptions", "Ljava/util/List;", false)
  | 3 => ("java/lang/Throwable", "detailMessage", "Ljava/lang/String;", false)
  | 4 => ("java/lang/Throwable", "backtrace", "Ljava/lang/Object;", false)
  | _ => ("java/lang/Throwable", "depth", "I", false)
def tyX7 : Nat → FieldType := fun k => match k with
  | 0 => .object "java/lang/Throwable"
  | 1 => .array (.object "java/lang/StackTraceElement")
  | 2 => .object "java/util/List"
  | 3 => .object "java/lang/String"
  | 4 => .object "java/lang/Object"
  | _ => .int
abbrev wsX70 : List Cond := u_ws RX7 TX7 6
theorem nmX7 : ∀ a, a < 6 → ∀ b, b < 6 → a ≠ b → (TX7 a).2.1 ≠ (TX7 b).2.1 := by decide +kernel
theorem tyX7_ok : ∀ k, k < 6 → parseFieldDescriptor (TX7 k).2.2.1 = some (tyX7 k) := by decide +kernel
abbrev cX7_init : ByteArray := prog_3_method_1_code
def yX7_init : MethodName := ⟨RX7, "<init>", "()V"⟩
def dkwX7_init_0 : List UInt8 := [42, 18, 1, 1, 3, 3, 183, 0, 3, 177]
abbrev dktX7_init_0 : List UInt8 := dkwX7_init_0 ++ []
theorem dksX7_init_0 : cX7_init.data.toList.drop 0 = dktX7_init_0 := by decide +kernel
theorem dX7_init_0 : decode cX7_init 0 = .ok (.aload_n 0, 1) := dk_42 (dk_at dksX7_init_0 0 rfl rfl)
theorem dX7_init_1 : decode cX7_init 1 = .ok (.ldc 1, 2) := dk_18 1 (dk_at dksX7_init_0 1 rfl rfl)
theorem dX7_init_3 : decode cX7_init 3 = .ok (.aconst_null, 1) := dk_1 (dk_at dksX7_init_0 3 rfl rfl)
theorem dX7_init_4 : decode cX7_init 4 = .ok (.iconst 0, 1) := dk_3 (dk_at dksX7_init_0 4 rfl rfl)
theorem dX7_init_5 : decode cX7_init 5 = .ok (.iconst 0, 1) := dk_3 (dk_at dksX7_init_0 5 rfl rfl)
theorem dX7_init_6 : decode cX7_init 6 = .ok (.invokespecial 3, 3) := dk_183 0 3 (dk_at dksX7_init_0 6 rfl rfl)
theorem dX7_init_9 : decode cX7_init 9 = .ok (.return_, 1) := dk_177 (dk_at dksX7_init_0 9 rfl rfl)
theorem q84 : (Jvm.Cond.initialized "DeadlineTree$Fault") ∈ lw_all := lw_g (lw_at lw_m1 15 rfl) rfl
theorem q307 : (Jvm.Cond.instantiable "DeadlineTree$Fault" (6 : Nat)) ∈ lw_all := lw_g (lw_at lw_m1 238 rfl) rfl
theorem q308 : (Jvm.Cond.castable "DeadlineTree$Fault" "DeadlineTree$Fault") ∈ lw_tbl := lw_at lw_m1 239 rfl
theorem q315 : (Jvm.Cond.selects "DeadlineTree$Fault" ({ cls := "java/lang/Throwable", name := "fillInStackTrace", desc := "(I)Ljava/lang/Throwable;" } : Jvm.MethodName) ({ cls := "java/lang/Throwable", name := "fillInStackTrace", desc := "(I)Ljava/lang/Throwable;" } : Jvm.MethodName)) ∈ lw_all := lw_g (lw_at lw_m2 6 rfl) rfl
theorem q316 : (Jvm.Cond.selects "DeadlineTree$Fault" ({ cls := "java/lang/Throwable", name := "fillInStackTrace", desc := "()Ljava/lang/Throwable;" } : Jvm.MethodName) ({ cls := "java/lang/Throwable", name := "fillInStackTrace", desc := "()Ljava/lang/Throwable;" } : Jvm.MethodName)) ∈ lw_all := lw_g (lw_at lw_m2 7 rfl) rfl
theorem q317 : (Jvm.Cond.lays "DeadlineTree$Fault" "java/lang/Throwable" "cause" "Ljava/lang/Throwable;") ∈ lw_all := lw_g (lw_at lw_m2 8 rfl) rfl
theorem q319 : (Jvm.Cond.lays "DeadlineTree$Fault" "java/lang/Throwable" "stackTrace" "[Ljava/lang/StackTraceElement;") ∈ lw_all := lw_g (lw_at lw_m2 10 rfl) rfl
theorem q321 : (Jvm.Cond.lays "DeadlineTree$Fault" "java/lang/Throwable" "suppressedExceptions" "Ljava/util/List;") ∈ lw_all := lw_g (lw_at lw_m2 12 rfl) rfl
theorem q323 : (Jvm.Cond.lays "DeadlineTree$Fault" "java/lang/Throwable" "detailMessage" "Ljava/lang/String;") ∈ lw_all := lw_g (lw_at lw_m2 14 rfl) rfl
theorem q325 : (Jvm.Cond.lays "DeadlineTree$Fault" "java/lang/Throwable" "backtrace" "Ljava/lang/Object;") ∈ lw_all := lw_g (lw_at lw_m2 16 rfl) rfl
theorem q360 : (Jvm.Cond.instanceMethod ({ cls := "DeadlineTree$Fault", name := "<init>", desc := "()V" } : Jvm.MethodName)) ∈ lw_all := lw_g (lw_at lw_m2 51 rfl) rfl
theorem q361 : (Jvm.Cond.code ({ cls := "DeadlineTree$Fault", name := "<init>", desc := "()V" } : Jvm.MethodName) prog_3_method_1_code (1 : Nat) (Option.none : Option Jvm.ClassFile.FieldType)) ∈ lw_all := lw_g (lw_at lw_m2 52 rfl) rfl
theorem q362 : (Jvm.Cond.stringRef "DeadlineTree$Fault" (1 : Nat) "fault") ∈ lw_tbl := lw_at lw_m2 53 rfl
theorem q363 : (Jvm.Cond.methodLink "DeadlineTree$Fault" (3 : Nat) ({ cls := "java/lang/RuntimeException", name := "<init>", desc := "(Ljava/lang/String;Ljava/lang/Throwable;ZZ)V" } : Jvm.MethodName)) ∈ lw_all := lw_g (lw_at lw_m2 54 rfl) rfl
theorem q381 : (Jvm.Cond.lays "DeadlineTree$Fault" "java/lang/Throwable" "depth" "I") ∈ lw_all := lw_g (lw_at lw_m2 72 rfl) rfl
theorem q384 : (Jvm.Cond.superclass "DeadlineTree$Fault" "java/lang/RuntimeException") ∈ lw_all := lw_g (lw_at lw_m2 75 rfl) rfl
theorem in_X7 : ∀ w ∈ wsX70, w ∈ lw_all := lw_in wsX70 [317, 319, 321, 323, 325, 381] (by decide +kernel) (by decide +kernel)

/-! DeadlineTree$Ranked -/
set_option maxRecDepth 100000
def RX9 : String := "DeadlineTree$Ranked"
abbrev cX9_isAhead : ByteArray := prog_7_method_2_code
def yX9_isAhead : MethodName := ⟨RX9, "isAhead", "(IIII)Z"⟩
def dkwX9_isAhead_0 : List UInt8 := [27, 29, 161, 0, 14, 27, 29, 160, 0, 13, 28, 21, 4, 162, 0, 7, 4, 167, 0, 4, 3, 172]
abbrev dktX9_isAhead_0 : List UInt8 := dkwX9_isAhead_0 ++ []
theorem dksX9_isAhead_0 : cX9_isAhead.data.toList.drop 0 = dktX9_isAhead_0 := by decide +kernel
theorem dX9_isAhead_0 : decode cX9_isAhead 0 = .ok (.iload_n 1, 1) := dk_27 (dk_at dksX9_isAhead_0 0 rfl rfl)
theorem dX9_isAhead_1 : decode cX9_isAhead 1 = .ok (.iload_n 3, 1) := dk_29 (dk_at dksX9_isAhead_0 1 rfl rfl)
theorem dX9_isAhead_2 : decode cX9_isAhead 2 = .ok (.if_icmp .lt 14, 3) := dk_161 0 14 (dk_at dksX9_isAhead_0 2 rfl rfl)
theorem dX9_isAhead_5 : decode cX9_isAhead 5 = .ok (.iload_n 1, 1) := dk_27 (dk_at dksX9_isAhead_0 5 rfl rfl)
theorem dX9_isAhead_6 : decode cX9_isAhead 6 = .ok (.iload_n 3, 1) := dk_29 (dk_at dksX9_isAhead_0 6 rfl rfl)
theorem dX9_isAhead_7 : decode cX9_isAhead 7 = .ok (.if_icmp .ne 13, 3) := dk_160 0 13 (dk_at dksX9_isAhead_0 7 rfl rfl)
theorem dX9_isAhead_10 : decode cX9_isAhead 10 = .ok (.iload_n 2, 1) := dk_28 (dk_at dksX9_isAhead_0 10 rfl rfl)
theorem dX9_isAhead_11 : decode cX9_isAhead 11 = .ok (.iload 4, 2) := dk_21 4 (dk_at dksX9_isAhead_0 11 rfl rfl)
theorem dX9_isAhead_13 : decode cX9_isAhead 13 = .ok (.if_icmp .ge 7, 3) := dk_162 0 7 (dk_at dksX9_isAhead_0 13 rfl rfl)
theorem dX9_isAhead_16 : decode cX9_isAhead 16 = .ok (.iconst 1, 1) := dk_4 (dk_at dksX9_isAhead_0 16 rfl rfl)
theorem dX9_isAhead_17 : decode cX9_isAhead 17 = .ok (.goto 4, 3) := dk_167 0 4 (dk_at dksX9_isAhead_0 17 rfl rfl)
theorem dX9_isAhead_20 : decode cX9_isAhead 20 = .ok (.iconst 0, 1) := dk_3 (dk_at dksX9_isAhead_0 20 rfl rfl)
theorem dX9_isAhead_21 : decode cX9_isAhead 21 = .ok (.ireturn, 1) := dk_172 (dk_at dksX9_isAhead_0 21 rfl rfl)
theorem q453 : (Jvm.Cond.interfaceMethod "DeadlineTree$Ranked" "DeadlineTree$Ranked" "rank" "(II)I") ∈ lw_tbl := lw_at lw_m2 144 rfl
theorem q454 : (Jvm.Cond.declares ({ cls := "DeadlineTree$Ranked", name := "rank", desc := "(II)I" } : Jvm.MethodName)) ∈ lw_tbl := lw_at lw_m2 145 rfl
theorem q490 : (Jvm.Cond.interfaceMethod "DeadlineTree$Ranked" "DeadlineTree$Ranked" "isAhead" "(IIII)Z") ∈ lw_tbl := lw_at lw_m2 181 rfl
theorem q491 : (Jvm.Cond.declares ({ cls := "DeadlineTree$Ranked", name := "isAhead", desc := "(IIII)Z" } : Jvm.MethodName)) ∈ lw_tbl := lw_at lw_m2 182 rfl
theorem q493 : (Jvm.Cond.instanceMethod ({ cls := "DeadlineTree$Ranked", name := "isAhead", desc := "(IIII)Z" } : Jvm.MethodName)) ∈ lw_all := lw_g (lw_at lw_m2 184 rfl) rfl
theorem q494 : (Jvm.Cond.publicMethod ({ cls := "DeadlineTree$Ranked", name := "isAhead", desc := "(IIII)Z" } : Jvm.MethodName)) ∈ lw_tbl := lw_at lw_m2 185 rfl
theorem q495 : (Jvm.Cond.code ({ cls := "DeadlineTree$Ranked", name := "isAhead", desc := "(IIII)Z" } : Jvm.MethodName) prog_7_method_2_code (5 : Nat) (Option.some Jvm.ClassFile.FieldType.boolean)) ∈ lw_all := lw_g (lw_at lw_m2 186 rfl) rfl

/-! java/lang/String -/
set_option maxRecDepth 100000
def RJ0 : String := "java/lang/String"
abbrev cJ0_length : ByteArray := prog_17_method_54_code
def yJ0_length : MethodName := ⟨RJ0, "length", "()I"⟩
def dkwJ0_length_0 : List UInt8 := [42, 180, 0, 9, 190, 42, 182, 1, 79, 122, 172]
abbrev dktJ0_length_0 : List UInt8 := dkwJ0_length_0 ++ []
theorem dksJ0_length_0 : cJ0_length.data.toList.drop 0 = dktJ0_length_0 := by decide +kernel
theorem dJ0_length_0 : decode cJ0_length 0 = .ok (.aload_n 0, 1) := dk_42 (dk_at dksJ0_length_0 0 rfl rfl)
theorem dJ0_length_1 : decode cJ0_length 1 = .ok (.getfield 9, 3) := dk_180 0 9 (dk_at dksJ0_length_0 1 rfl rfl)
theorem dJ0_length_4 : decode cJ0_length 4 = .ok (.arraylength, 1) := dk_190 (dk_at dksJ0_length_0 4 rfl rfl)
theorem dJ0_length_5 : decode cJ0_length 5 = .ok (.aload_n 0, 1) := dk_42 (dk_at dksJ0_length_0 5 rfl rfl)
theorem dJ0_length_6 : decode cJ0_length 6 = .ok (.invokevirtual 335, 3) := dk_182 1 79 (dk_at dksJ0_length_0 6 rfl rfl)
theorem dJ0_length_9 : decode cJ0_length 9 = .ok (.ishr, 1) := dk_122 (dk_at dksJ0_length_0 9 rfl rfl)
theorem dJ0_length_10 : decode cJ0_length 10 = .ok (.ireturn, 1) := dk_172 (dk_at dksJ0_length_0 10 rfl rfl)
abbrev cJ0_coder : ByteArray := prog_17_method_152_code
def yJ0_coder : MethodName := ⟨RJ0, "coder", "()B"⟩
def dkwJ0_coder_0 : List UInt8 := [178, 0, 38, 153, 0, 10, 42, 180, 0, 15, 167, 0, 4, 4, 172]
abbrev dktJ0_coder_0 : List UInt8 := dkwJ0_coder_0 ++ []
theorem dksJ0_coder_0 : cJ0_coder.data.toList.drop 0 = dktJ0_coder_0 := by decide +kernel
theorem dJ0_coder_0 : decode cJ0_coder 0 = .ok (.getstatic 38, 3) := dk_178 0 38 (dk_at dksJ0_coder_0 0 rfl rfl)
theorem dJ0_coder_3 : decode cJ0_coder 3 = .ok (.ifCond .eq 10, 3) := dk_153 0 10 (dk_at dksJ0_coder_0 3 rfl rfl)
theorem dJ0_coder_6 : decode cJ0_coder 6 = .ok (.aload_n 0, 1) := dk_42 (dk_at dksJ0_coder_0 6 rfl rfl)
theorem dJ0_coder_7 : decode cJ0_coder 7 = .ok (.getfield 15, 3) := dk_180 0 15 (dk_at dksJ0_coder_0 7 rfl rfl)
theorem dJ0_coder_10 : decode cJ0_coder 10 = .ok (.goto 4, 3) := dk_167 0 4 (dk_at dksJ0_coder_0 10 rfl rfl)
theorem dJ0_coder_13 : decode cJ0_coder 13 = .ok (.iconst 1, 1) := dk_4 (dk_at dksJ0_coder_0 13 rfl rfl)
theorem dJ0_coder_14 : decode cJ0_coder 14 = .ok (.ireturn, 1) := dk_172 (dk_at dksJ0_coder_0 14 rfl rfl)
abbrev cJ0_charAt : ByteArray := prog_17_method_56_code
def yJ0_charAt : MethodName := ⟨RJ0, "charAt", "(I)C"⟩
def dkwJ0_charAt_1 : List UInt8 := [172]
abbrev dktJ0_charAt_1 : List UInt8 := dkwJ0_charAt_1 ++ []
def dkwJ0_charAt_0 : List UInt8 := [42, 182, 1, 236, 153, 0, 12, 42, 180, 0, 9, 27, 184, 1, 239, 172, 42, 180, 0, 9, 27, 184, 1, 242]
abbrev dktJ0_charAt_0 : List UInt8 := dkwJ0_charAt_0 ++ dktJ0_charAt_1
theorem dksJ0_charAt_0 : cJ0_charAt.data.toList.drop 0 = dktJ0_charAt_0 := by decide +kernel
theorem dksJ0_charAt_1 : cJ0_charAt.data.toList.drop 24 = dktJ0_charAt_1 := dk_seg dksJ0_charAt_0 24 rfl rfl
theorem dJ0_charAt_0 : decode cJ0_charAt 0 = .ok (.aload_n 0, 1) := dk_42 (dk_at dksJ0_charAt_0 0 rfl rfl)
theorem dJ0_charAt_1 : decode cJ0_charAt 1 = .ok (.invokevirtual 492, 3) := dk_182 1 236 (dk_at dksJ0_charAt_0 1 rfl rfl)
theorem dJ0_charAt_4 : decode cJ0_charAt 4 = .ok (.ifCond .eq 12, 3) := dk_153 0 12 (dk_at dksJ0_charAt_0 4 rfl rfl)
theorem dJ0_charAt_7 : decode cJ0_charAt 7 = .ok (.aload_n 0, 1) := dk_42 (dk_at dksJ0_charAt_0 7 rfl rfl)
theorem dJ0_charAt_8 : decode cJ0_charAt 8 = .ok (.getfield 9, 3) := dk_180 0 9 (dk_at dksJ0_charAt_0 8 rfl rfl)
theorem dJ0_charAt_11 : decode cJ0_charAt 11 = .ok (.iload_n 1, 1) := dk_27 (dk_at dksJ0_charAt_0 11 rfl rfl)
theorem dJ0_charAt_12 : decode cJ0_charAt 12 = .ok (.invokestatic 495, 3) := dk_184 1 239 (dk_at dksJ0_charAt_0 12 rfl rfl)
theorem dJ0_charAt_15 : decode cJ0_charAt 15 = .ok (.ireturn, 1) := dk_172 (dk_at dksJ0_charAt_0 15 rfl rfl)
theorem dJ0_charAt_16 : decode cJ0_charAt 16 = .ok (.aload_n 0, 1) := dk_42 (dk_at dksJ0_charAt_0 16 rfl rfl)
theorem dJ0_charAt_17 : decode cJ0_charAt 17 = .ok (.getfield 9, 3) := dk_180 0 9 (dk_at dksJ0_charAt_0 17 rfl rfl)
theorem dJ0_charAt_20 : decode cJ0_charAt 20 = .ok (.iload_n 1, 1) := dk_27 (dk_at dksJ0_charAt_0 20 rfl rfl)
theorem dJ0_charAt_21 : decode cJ0_charAt 21 = .ok (.invokestatic 498, 3) := dk_184 1 242 (dk_at dksJ0_charAt_0 21 rfl rfl)
theorem dJ0_charAt_24 : decode cJ0_charAt 24 = .ok (.ireturn, 1) := dk_172 (dk_at dksJ0_charAt_1 0 rfl rfl)
abbrev cJ0_isLatin1 : ByteArray := prog_17_method_154_code
def yJ0_isLatin1 : MethodName := ⟨RJ0, "isLatin1", "()Z"⟩
def dkwJ0_isLatin1_0 : List UInt8 := [178, 0, 38, 153, 0, 14, 42, 180, 0, 15, 154, 0, 7, 4, 167, 0, 4, 3, 172]
abbrev dktJ0_isLatin1_0 : List UInt8 := dkwJ0_isLatin1_0 ++ []
theorem dksJ0_isLatin1_0 : cJ0_isLatin1.data.toList.drop 0 = dktJ0_isLatin1_0 := by decide +kernel
theorem dJ0_isLatin1_0 : decode cJ0_isLatin1 0 = .ok (.getstatic 38, 3) := dk_178 0 38 (dk_at dksJ0_isLatin1_0 0 rfl rfl)
theorem dJ0_isLatin1_3 : decode cJ0_isLatin1 3 = .ok (.ifCond .eq 14, 3) := dk_153 0 14 (dk_at dksJ0_isLatin1_0 3 rfl rfl)
theorem dJ0_isLatin1_6 : decode cJ0_isLatin1 6 = .ok (.aload_n 0, 1) := dk_42 (dk_at dksJ0_isLatin1_0 6 rfl rfl)
theorem dJ0_isLatin1_7 : decode cJ0_isLatin1 7 = .ok (.getfield 15, 3) := dk_180 0 15 (dk_at dksJ0_isLatin1_0 7 rfl rfl)
theorem dJ0_isLatin1_10 : decode cJ0_isLatin1 10 = .ok (.ifCond .ne 7, 3) := dk_154 0 7 (dk_at dksJ0_isLatin1_0 10 rfl rfl)
theorem dJ0_isLatin1_13 : decode cJ0_isLatin1 13 = .ok (.iconst 1, 1) := dk_4 (dk_at dksJ0_isLatin1_0 13 rfl rfl)
theorem dJ0_isLatin1_14 : decode cJ0_isLatin1 14 = .ok (.goto 4, 3) := dk_167 0 4 (dk_at dksJ0_isLatin1_0 14 rfl rfl)
theorem dJ0_isLatin1_17 : decode cJ0_isLatin1 17 = .ok (.iconst 0, 1) := dk_3 (dk_at dksJ0_isLatin1_0 17 rfl rfl)
theorem dJ0_isLatin1_18 : decode cJ0_isLatin1 18 = .ok (.ireturn, 1) := dk_172 (dk_at dksJ0_isLatin1_0 18 rfl rfl)
abbrev cJ0_checkIndex : ByteArray := prog_17_method_155_code
def yJ0_checkIndex : MethodName := ⟨RJ0, "checkIndex", "(II)V"⟩
def dkwJ0_checkIndex_0 : List UInt8 := [26, 27, 178, 4, 29, 184, 4, 35, 87, 177]
abbrev dktJ0_checkIndex_0 : List UInt8 := dkwJ0_checkIndex_0 ++ []
theorem dksJ0_checkIndex_0 : cJ0_checkIndex.data.toList.drop 0 = dktJ0_checkIndex_0 := by decide +kernel
theorem dJ0_checkIndex_0 : decode cJ0_checkIndex 0 = .ok (.iload_n 0, 1) := dk_26 (dk_at dksJ0_checkIndex_0 0 rfl rfl)
theorem dJ0_checkIndex_1 : decode cJ0_checkIndex 1 = .ok (.iload_n 1, 1) := dk_27 (dk_at dksJ0_checkIndex_0 1 rfl rfl)
theorem dJ0_checkIndex_2 : decode cJ0_checkIndex 2 = .ok (.getstatic 1053, 3) := dk_178 4 29 (dk_at dksJ0_checkIndex_0 2 rfl rfl)
theorem dJ0_checkIndex_5 : decode cJ0_checkIndex 5 = .ok (.invokestatic 1059, 3) := dk_184 4 35 (dk_at dksJ0_checkIndex_0 5 rfl rfl)
theorem dJ0_checkIndex_8 : decode cJ0_checkIndex 8 = .ok (.pop, 1) := dk_87 (dk_at dksJ0_checkIndex_0 8 rfl rfl)
theorem dJ0_checkIndex_9 : decode cJ0_checkIndex 9 = .ok (.return_, 1) := dk_177 (dk_at dksJ0_checkIndex_0 9 rfl rfl)
theorem q77 : (Jvm.Cond.initialized "java/lang/String") ∈ lw_all := lw_g (lw_at lw_m1 8 rfl) rfl
theorem q226 : (Jvm.Cond.instanceMethod ({ cls := "java/lang/String", name := "length", desc := "()I" } : Jvm.MethodName)) ∈ lw_all := lw_g (lw_at lw_m1 157 rfl) rfl
theorem q227 : (Jvm.Cond.selects "java/lang/String" ({ cls := "java/lang/String", name := "length", desc := "()I" } : Jvm.MethodName) ({ cls := "java/lang/String", name := "length", desc := "()I" } : Jvm.MethodName)) ∈ lw_all := lw_g (lw_at lw_m1 158 rfl) rfl
theorem q228 : (Jvm.Cond.code ({ cls := "java/lang/String", name := "length", desc := "()I" } : Jvm.MethodName) prog_17_method_54_code (1 : Nat) (Option.some Jvm.ClassFile.FieldType.int)) ∈ lw_all := lw_g (lw_at lw_m1 159 rfl) rfl
theorem q229 : (Jvm.Cond.methodLink "java/lang/String" (335 : Nat) ({ cls := "java/lang/String", name := "coder", desc := "()B" } : Jvm.MethodName)) ∈ lw_all := lw_g (lw_at lw_m1 160 rfl) rfl
theorem q230 : (Jvm.Cond.instanceMethod ({ cls := "java/lang/String", name := "coder", desc := "()B" } : Jvm.MethodName)) ∈ lw_all := lw_g (lw_at lw_m1 161 rfl) rfl
theorem q231 : (Jvm.Cond.selects "java/lang/String" ({ cls := "java/lang/String", name := "coder", desc := "()B" } : Jvm.MethodName) ({ cls := "java/lang/String", name := "coder", desc := "()B" } : Jvm.MethodName)) ∈ lw_all := lw_g (lw_at lw_m1 162 rfl) rfl
theorem q232 : (Jvm.Cond.code ({ cls := "java/lang/String", name := "coder", desc := "()B" } : Jvm.MethodName) prog_17_method_152_code (1 : Nat) (Option.some Jvm.ClassFile.FieldType.byte)) ∈ lw_all := lw_g (lw_at lw_m1 163 rfl) rfl
theorem q233 : (Jvm.Cond.fieldLink "java/lang/String" (38 : Nat) "java/lang/String" "COMPACT_STRINGS" "Z") ∈ lw_all := lw_g (lw_at lw_m1 164 rfl) rfl
theorem q234 : (Jvm.Cond.laysStatic "java/lang/String" "COMPACT_STRINGS" "Z") ∈ lw_tbl := lw_at lw_m1 165 rfl
theorem q236 : (Jvm.Cond.instanceMethod ({ cls := "java/lang/String", name := "charAt", desc := "(I)C" } : Jvm.MethodName)) ∈ lw_all := lw_g (lw_at lw_m1 167 rfl) rfl
theorem q237 : (Jvm.Cond.selects "java/lang/String" ({ cls := "java/lang/String", name := "charAt", desc := "(I)C" } : Jvm.MethodName) ({ cls := "java/lang/String", name := "charAt", desc := "(I)C" } : Jvm.MethodName)) ∈ lw_all := lw_g (lw_at lw_m1 168 rfl) rfl
theorem q238 : (Jvm.Cond.code ({ cls := "java/lang/String", name := "charAt", desc := "(I)C" } : Jvm.MethodName) prog_17_method_56_code (2 : Nat) (Option.some Jvm.ClassFile.FieldType.char)) ∈ lw_all := lw_g (lw_at lw_m1 169 rfl) rfl
theorem q239 : (Jvm.Cond.methodLink "java/lang/String" (492 : Nat) ({ cls := "java/lang/String", name := "isLatin1", desc := "()Z" } : Jvm.MethodName)) ∈ lw_all := lw_g (lw_at lw_m1 170 rfl) rfl
theorem q240 : (Jvm.Cond.instanceMethod ({ cls := "java/lang/String", name := "isLatin1", desc := "()Z" } : Jvm.MethodName)) ∈ lw_all := lw_g (lw_at lw_m1 171 rfl) rfl
theorem q241 : (Jvm.Cond.selects "java/lang/String" ({ cls := "java/lang/String", name := "isLatin1", desc := "()Z" } : Jvm.MethodName) ({ cls := "java/lang/String", name := "isLatin1", desc := "()Z" } : Jvm.MethodName)) ∈ lw_all := lw_g (lw_at lw_m1 172 rfl) rfl
theorem q242 : (Jvm.Cond.code ({ cls := "java/lang/String", name := "isLatin1", desc := "()Z" } : Jvm.MethodName) prog_17_method_154_code (1 : Nat) (Option.some Jvm.ClassFile.FieldType.boolean)) ∈ lw_all := lw_g (lw_at lw_m1 173 rfl) rfl
theorem q243 : (Jvm.Cond.methodLink "java/lang/String" (495 : Nat) ({ cls := "java/lang/StringLatin1", name := "charAt", desc := "([BI)C" } : Jvm.MethodName)) ∈ lw_all := lw_g (lw_at lw_m1 174 rfl) rfl
theorem q247 : (Jvm.Cond.static ({ cls := "java/lang/String", name := "checkIndex", desc := "(II)V" } : Jvm.MethodName)) ∈ lw_all := lw_g (lw_at lw_m1 178 rfl) rfl
theorem q248 : (Jvm.Cond.code ({ cls := "java/lang/String", name := "checkIndex", desc := "(II)V" } : Jvm.MethodName) prog_17_method_155_code (2 : Nat) (Option.none : Option Jvm.ClassFile.FieldType)) ∈ lw_all := lw_g (lw_at lw_m1 179 rfl) rfl
theorem q249 : (Jvm.Cond.fieldLink "java/lang/String" (1053 : Nat) "jdk/internal/util/Preconditions" "SIOOBE_FORMATTER" "Ljava/util/function/BiFunction;") ∈ lw_all := lw_g (lw_at lw_m1 180 rfl) rfl
theorem q251 : (Jvm.Cond.methodLink "java/lang/String" (1059 : Nat) ({ cls := "jdk/internal/util/Preconditions", name := "checkIndex", desc := "(IILjava/util/function/BiFunction;)I" } : Jvm.MethodName)) ∈ lw_all := lw_g (lw_at lw_m1 182 rfl) rfl
theorem q254 : (Jvm.Cond.methodLink "java/lang/String" (498 : Nat) ({ cls := "java/lang/StringUTF16", name := "charAt", desc := "([BI)C" } : Jvm.MethodName)) ∈ lw_all := lw_g (lw_at lw_m1 185 rfl) rfl
theorem q1176 : (Jvm.Cond.fieldLink "java/lang/String" (9 : Nat) "java/lang/String" "value" "[B") ∈ lw_all := lw_g (lw_at lw_m5 147 rfl) rfl
theorem q1177 : (Jvm.Cond.fieldLink "java/lang/String" (15 : Nat) "java/lang/String" "coder" "B") ∈ lw_all := lw_g (lw_at lw_m5 148 rfl) rfl

/-! java/lang/StringLatin1 -/
set_option maxRecDepth 100000
def RJ1 : String := "java/lang/StringLatin1"
abbrev cJ1_charAt : ByteArray := prog_18_method_2_code
def yJ1_charAt : MethodName := ⟨RJ1, "charAt", "([BI)C"⟩
def dkwJ1_charAt_0 : List UInt8 := [27, 42, 190, 184, 0, 9, 42, 27, 51, 17, 0, 255, 126, 146, 172]
abbrev dktJ1_charAt_0 : List UInt8 := dkwJ1_charAt_0 ++ []
theorem dksJ1_charAt_0 : cJ1_charAt.data.toList.drop 0 = dktJ1_charAt_0 := by decide +kernel
theorem dJ1_charAt_0 : decode cJ1_charAt 0 = .ok (.iload_n 1, 1) := dk_27 (dk_at dksJ1_charAt_0 0 rfl rfl)
theorem dJ1_charAt_1 : decode cJ1_charAt 1 = .ok (.aload_n 0, 1) := dk_42 (dk_at dksJ1_charAt_0 1 rfl rfl)
theorem dJ1_charAt_2 : decode cJ1_charAt 2 = .ok (.arraylength, 1) := dk_190 (dk_at dksJ1_charAt_0 2 rfl rfl)
theorem dJ1_charAt_3 : decode cJ1_charAt 3 = .ok (.invokestatic 9, 3) := dk_184 0 9 (dk_at dksJ1_charAt_0 3 rfl rfl)
theorem dJ1_charAt_6 : decode cJ1_charAt 6 = .ok (.aload_n 0, 1) := dk_42 (dk_at dksJ1_charAt_0 6 rfl rfl)
theorem dJ1_charAt_7 : decode cJ1_charAt 7 = .ok (.iload_n 1, 1) := dk_27 (dk_at dksJ1_charAt_0 7 rfl rfl)
theorem dJ1_charAt_8 : decode cJ1_charAt 8 = .ok (.baload, 1) := dk_51 (dk_at dksJ1_charAt_0 8 rfl rfl)
theorem dJ1_charAt_9 : decode cJ1_charAt 9 = .ok (.sipush 255, 3) := dk_17 0 255 (dk_at dksJ1_charAt_0 9 rfl rfl)
theorem dJ1_charAt_12 : decode cJ1_charAt 12 = .ok (.iand, 1) := dk_126 (dk_at dksJ1_charAt_0 12 rfl rfl)
theorem dJ1_charAt_13 : decode cJ1_charAt 13 = .ok (.i2c, 1) := dk_146 (dk_at dksJ1_charAt_0 13 rfl rfl)
theorem dJ1_charAt_14 : decode cJ1_charAt 14 = .ok (.ireturn, 1) := dk_172 (dk_at dksJ1_charAt_0 14 rfl rfl)
theorem q78 : (Jvm.Cond.initialized "java/lang/StringLatin1") ∈ lw_all := lw_g (lw_at lw_m1 9 rfl) rfl
theorem q244 : (Jvm.Cond.static ({ cls := "java/lang/StringLatin1", name := "charAt", desc := "([BI)C" } : Jvm.MethodName)) ∈ lw_all := lw_g (lw_at lw_m1 175 rfl) rfl
theorem q245 : (Jvm.Cond.code ({ cls := "java/lang/StringLatin1", name := "charAt", desc := "([BI)C" } : Jvm.MethodName) prog_18_method_2_code (2 : Nat) (Option.some Jvm.ClassFile.FieldType.char)) ∈ lw_all := lw_g (lw_at lw_m1 176 rfl) rfl
theorem q246 : (Jvm.Cond.methodLink "java/lang/StringLatin1" (9 : Nat) ({ cls := "java/lang/String", name := "checkIndex", desc := "(II)V" } : Jvm.MethodName)) ∈ lw_all := lw_g (lw_at lw_m1 177 rfl) rfl

/-! jdk/internal/util/Preconditions -/
set_option maxRecDepth 100000
def RJ2 : String := "jdk/internal/util/Preconditions"
abbrev cJ2_checkIndex : ByteArray := prog_22_method_11_code
def yJ2_checkIndex : MethodName := ⟨RJ2, "checkIndex", "(IILjava/util/function/BiFunction;)I"⟩
def dkwJ2_checkIndex_0 : List UInt8 := [26, 155, 0, 8, 26, 27, 161, 0, 10, 44, 26, 27, 184, 0, 95, 191, 26, 172]
abbrev dktJ2_checkIndex_0 : List UInt8 := dkwJ2_checkIndex_0 ++ []
theorem dksJ2_checkIndex_0 : cJ2_checkIndex.data.toList.drop 0 = dktJ2_checkIndex_0 := by decide +kernel
theorem dJ2_checkIndex_0 : decode cJ2_checkIndex 0 = .ok (.iload_n 0, 1) := dk_26 (dk_at dksJ2_checkIndex_0 0 rfl rfl)
theorem dJ2_checkIndex_1 : decode cJ2_checkIndex 1 = .ok (.ifCond .lt 8, 3) := dk_155 0 8 (dk_at dksJ2_checkIndex_0 1 rfl rfl)
theorem dJ2_checkIndex_4 : decode cJ2_checkIndex 4 = .ok (.iload_n 0, 1) := dk_26 (dk_at dksJ2_checkIndex_0 4 rfl rfl)
theorem dJ2_checkIndex_5 : decode cJ2_checkIndex 5 = .ok (.iload_n 1, 1) := dk_27 (dk_at dksJ2_checkIndex_0 5 rfl rfl)
theorem dJ2_checkIndex_6 : decode cJ2_checkIndex 6 = .ok (.if_icmp .lt 10, 3) := dk_161 0 10 (dk_at dksJ2_checkIndex_0 6 rfl rfl)
theorem dJ2_checkIndex_9 : decode cJ2_checkIndex 9 = .ok (.aload_n 2, 1) := dk_44 (dk_at dksJ2_checkIndex_0 9 rfl rfl)
theorem dJ2_checkIndex_10 : decode cJ2_checkIndex 10 = .ok (.iload_n 0, 1) := dk_26 (dk_at dksJ2_checkIndex_0 10 rfl rfl)
theorem dJ2_checkIndex_11 : decode cJ2_checkIndex 11 = .ok (.iload_n 1, 1) := dk_27 (dk_at dksJ2_checkIndex_0 11 rfl rfl)
theorem dJ2_checkIndex_12 : decode cJ2_checkIndex 12 = .ok (.invokestatic 95, 3) := dk_184 0 95 (dk_at dksJ2_checkIndex_0 12 rfl rfl)
theorem dJ2_checkIndex_15 : decode cJ2_checkIndex 15 = .ok (.athrow, 1) := dk_191 (dk_at dksJ2_checkIndex_0 15 rfl rfl)
theorem dJ2_checkIndex_16 : decode cJ2_checkIndex 16 = .ok (.iload_n 0, 1) := dk_26 (dk_at dksJ2_checkIndex_0 16 rfl rfl)
theorem dJ2_checkIndex_17 : decode cJ2_checkIndex 17 = .ok (.ireturn, 1) := dk_172 (dk_at dksJ2_checkIndex_0 17 rfl rfl)
theorem q79 : (Jvm.Cond.initialized "jdk/internal/util/Preconditions") ∈ lw_all := lw_g (lw_at lw_m1 10 rfl) rfl
theorem q250 : (Jvm.Cond.laysStatic "jdk/internal/util/Preconditions" "SIOOBE_FORMATTER" "Ljava/util/function/BiFunction;") ∈ lw_tbl := lw_at lw_m1 181 rfl
theorem q252 : (Jvm.Cond.static ({ cls := "jdk/internal/util/Preconditions", name := "checkIndex", desc := "(IILjava/util/function/BiFunction;)I" } : Jvm.MethodName)) ∈ lw_all := lw_g (lw_at lw_m1 183 rfl) rfl
theorem q253 : (Jvm.Cond.code ({ cls := "jdk/internal/util/Preconditions", name := "checkIndex", desc := "(IILjava/util/function/BiFunction;)I" } : Jvm.MethodName) prog_22_method_11_code (3 : Nat) (Option.some Jvm.ClassFile.FieldType.int)) ∈ lw_all := lw_g (lw_at lw_m1 184 rfl) rfl

/-! java/lang/StringUTF16 -/
set_option maxRecDepth 100000
def RJ3 : String := "java/lang/StringUTF16"
abbrev cJ3_charAt : ByteArray := prog_19_method_83_code
def yJ3_charAt : MethodName := ⟨RJ3, "charAt", "([BI)C"⟩
def dkwJ3_charAt_0 : List UInt8 := [27, 42, 184, 0, 67, 42, 27, 184, 0, 71, 172]
abbrev dktJ3_charAt_0 : List UInt8 := dkwJ3_charAt_0 ++ []
theorem dksJ3_charAt_0 : cJ3_charAt.data.toList.drop 0 = dktJ3_charAt_0 := by decide +kernel
theorem dJ3_charAt_0 : decode cJ3_charAt 0 = .ok (.iload_n 1, 1) := dk_27 (dk_at dksJ3_charAt_0 0 rfl rfl)
theorem dJ3_charAt_1 : decode cJ3_charAt 1 = .ok (.aload_n 0, 1) := dk_42 (dk_at dksJ3_charAt_0 1 rfl rfl)
theorem dJ3_charAt_2 : decode cJ3_charAt 2 = .ok (.invokestatic 67, 3) := dk_184 0 67 (dk_at dksJ3_charAt_0 2 rfl rfl)
theorem dJ3_charAt_5 : decode cJ3_charAt 5 = .ok (.aload_n 0, 1) := dk_42 (dk_at dksJ3_charAt_0 5 rfl rfl)
theorem dJ3_charAt_6 : decode cJ3_charAt 6 = .ok (.iload_n 1, 1) := dk_27 (dk_at dksJ3_charAt_0 6 rfl rfl)
theorem dJ3_charAt_7 : decode cJ3_charAt 7 = .ok (.invokestatic 71, 3) := dk_184 0 71 (dk_at dksJ3_charAt_0 7 rfl rfl)
theorem dJ3_charAt_10 : decode cJ3_charAt 10 = .ok (.ireturn, 1) := dk_172 (dk_at dksJ3_charAt_0 10 rfl rfl)
abbrev cJ3_checkIndex : ByteArray := prog_19_method_91_code
def yJ3_checkIndex : MethodName := ⟨RJ3, "checkIndex", "(I[B)V"⟩
def dkwJ3_checkIndex_0 : List UInt8 := [26, 43, 184, 0, 48, 184, 1, 158, 177]
abbrev dktJ3_checkIndex_0 : List UInt8 := dkwJ3_checkIndex_0 ++ []
theorem dksJ3_checkIndex_0 : cJ3_checkIndex.data.toList.drop 0 = dktJ3_checkIndex_0 := by decide +kernel
theorem dJ3_checkIndex_0 : decode cJ3_checkIndex 0 = .ok (.iload_n 0, 1) := dk_26 (dk_at dksJ3_checkIndex_0 0 rfl rfl)
theorem dJ3_checkIndex_1 : decode cJ3_checkIndex 1 = .ok (.aload_n 1, 1) := dk_43 (dk_at dksJ3_checkIndex_0 1 rfl rfl)
theorem dJ3_checkIndex_2 : decode cJ3_checkIndex 2 = .ok (.invokestatic 48, 3) := dk_184 0 48 (dk_at dksJ3_checkIndex_0 2 rfl rfl)
theorem dJ3_checkIndex_5 : decode cJ3_checkIndex 5 = .ok (.invokestatic 414, 3) := dk_184 1 158 (dk_at dksJ3_checkIndex_0 5 rfl rfl)
theorem dJ3_checkIndex_8 : decode cJ3_checkIndex 8 = .ok (.return_, 1) := dk_177 (dk_at dksJ3_checkIndex_0 8 rfl rfl)
abbrev cJ3_length : ByteArray := prog_19_method_6_code
def yJ3_length : MethodName := ⟨RJ3, "length", "([B)I"⟩
def dkwJ3_length_0 : List UInt8 := [42, 190, 4, 122, 172]
abbrev dktJ3_length_0 : List UInt8 := dkwJ3_length_0 ++ []
theorem dksJ3_length_0 : cJ3_length.data.toList.drop 0 = dktJ3_length_0 := by decide +kernel
theorem dJ3_length_0 : decode cJ3_length 0 = .ok (.aload_n 0, 1) := dk_42 (dk_at dksJ3_length_0 0 rfl rfl)
theorem dJ3_length_1 : decode cJ3_length 1 = .ok (.arraylength, 1) := dk_190 (dk_at dksJ3_length_0 1 rfl rfl)
theorem dJ3_length_2 : decode cJ3_length 2 = .ok (.iconst 1, 1) := dk_4 (dk_at dksJ3_length_0 2 rfl rfl)
theorem dJ3_length_3 : decode cJ3_length 3 = .ok (.ishr, 1) := dk_122 (dk_at dksJ3_length_0 3 rfl rfl)
theorem dJ3_length_4 : decode cJ3_length 4 = .ok (.ireturn, 1) := dk_172 (dk_at dksJ3_length_0 4 rfl rfl)
abbrev cJ3_getChar : ByteArray := prog_19_method_5_code
def yJ3_getChar : MethodName := ⟨RJ3, "getChar", "([BI)C"⟩
def dkwJ3_getChar_2 : List UInt8 := [51, 17, 0, 255, 126, 178, 0, 63, 120, 128, 146, 172]
abbrev dktJ3_getChar_2 : List UInt8 := dkwJ3_getChar_2 ++ []
def dkwJ3_getChar_1 : List UInt8 := [183, 0, 56, 191, 27, 4, 120, 60, 42, 27, 132, 1, 1, 51, 17, 0, 255, 126, 178, 0, 59, 120, 42, 27]
abbrev dktJ3_getChar_1 : List UInt8 := dkwJ3_getChar_1 ++ dktJ3_getChar_2
def dkwJ3_getChar_0 : List UInt8 := [178, 0, 44, 154, 0, 25, 27, 155, 0, 11, 27, 42, 184, 0, 48, 161, 0, 13, 187, 0, 52, 89, 18, 54]
abbrev dktJ3_getChar_0 : List UInt8 := dkwJ3_getChar_0 ++ dktJ3_getChar_1
theorem dksJ3_getChar_0 : cJ3_getChar.data.toList.drop 0 = dktJ3_getChar_0 := by decide +kernel
theorem dksJ3_getChar_1 : cJ3_getChar.data.toList.drop 24 = dktJ3_getChar_1 := dk_seg dksJ3_getChar_0 24 rfl rfl
theorem dksJ3_getChar_2 : cJ3_getChar.data.toList.drop 48 = dktJ3_getChar_2 := dk_seg dksJ3_getChar_1 24 rfl rfl
theorem dJ3_getChar_0 : decode cJ3_getChar 0 = .ok (.getstatic 44, 3) := dk_178 0 44 (dk_at dksJ3_getChar_0 0 rfl rfl)
theorem dJ3_getChar_3 : decode cJ3_getChar 3 = .ok (.ifCond .ne 25, 3) := dk_154 0 25 (dk_at dksJ3_getChar_0 3 rfl rfl)
theorem dJ3_getChar_6 : decode cJ3_getChar 6 = .ok (.iload_n 1, 1) := dk_27 (dk_at dksJ3_getChar_0 6 rfl rfl)
theorem dJ3_getChar_7 : decode cJ3_getChar 7 = .ok (.ifCond .lt 11, 3) := dk_155 0 11 (dk_at dksJ3_getChar_0 7 rfl rfl)
theorem dJ3_getChar_10 : decode cJ3_getChar 10 = .ok (.iload_n 1, 1) := dk_27 (dk_at dksJ3_getChar_0 10 rfl rfl)
theorem dJ3_getChar_11 : decode cJ3_getChar 11 = .ok (.aload_n 0, 1) := dk_42 (dk_at dksJ3_getChar_0 11 rfl rfl)
theorem dJ3_getChar_12 : decode cJ3_getChar 12 = .ok (.invokestatic 48, 3) := dk_184 0 48 (dk_at dksJ3_getChar_0 12 rfl rfl)
theorem dJ3_getChar_15 : decode cJ3_getChar 15 = .ok (.if_icmp .lt 13, 3) := dk_161 0 13 (dk_at dksJ3_getChar_0 15 rfl rfl)
theorem dJ3_getChar_18 : decode cJ3_getChar 18 = .ok (.new 52, 3) := dk_187 0 52 (dk_at dksJ3_getChar_0 18 rfl rfl)
theorem dJ3_getChar_21 : decode cJ3_getChar 21 = .ok (.dup, 1) := dk_89 (dk_at dksJ3_getChar_0 21 rfl rfl)
theorem dJ3_getChar_22 : decode cJ3_getChar 22 = .ok (.ldc 54, 2) := dk_18 54 (dk_at dksJ3_getChar_0 22 rfl rfl)
theorem dJ3_getChar_24 : decode cJ3_getChar 24 = .ok (.invokespecial 56, 3) := dk_183 0 56 (dk_at dksJ3_getChar_1 0 rfl rfl)
theorem dJ3_getChar_27 : decode cJ3_getChar 27 = .ok (.athrow, 1) := dk_191 (dk_at dksJ3_getChar_1 3 rfl rfl)
theorem dJ3_getChar_28 : decode cJ3_getChar 28 = .ok (.iload_n 1, 1) := dk_27 (dk_at dksJ3_getChar_1 4 rfl rfl)
theorem dJ3_getChar_29 : decode cJ3_getChar 29 = .ok (.iconst 1, 1) := dk_4 (dk_at dksJ3_getChar_1 5 rfl rfl)
theorem dJ3_getChar_30 : decode cJ3_getChar 30 = .ok (.ishl, 1) := dk_120 (dk_at dksJ3_getChar_1 6 rfl rfl)
theorem dJ3_getChar_31 : decode cJ3_getChar 31 = .ok (.istore_n 1, 1) := dk_60 (dk_at dksJ3_getChar_1 7 rfl rfl)
theorem dJ3_getChar_32 : decode cJ3_getChar 32 = .ok (.aload_n 0, 1) := dk_42 (dk_at dksJ3_getChar_1 8 rfl rfl)
theorem dJ3_getChar_33 : decode cJ3_getChar 33 = .ok (.iload_n 1, 1) := dk_27 (dk_at dksJ3_getChar_1 9 rfl rfl)
theorem dJ3_getChar_34 : decode cJ3_getChar 34 = .ok (.iinc 1 1, 3) := dk_132 1 1 (dk_at dksJ3_getChar_1 10 rfl rfl)
theorem dJ3_getChar_37 : decode cJ3_getChar 37 = .ok (.baload, 1) := dk_51 (dk_at dksJ3_getChar_1 13 rfl rfl)
theorem dJ3_getChar_38 : decode cJ3_getChar 38 = .ok (.sipush 255, 3) := dk_17 0 255 (dk_at dksJ3_getChar_1 14 rfl rfl)
theorem dJ3_getChar_41 : decode cJ3_getChar 41 = .ok (.iand, 1) := dk_126 (dk_at dksJ3_getChar_1 17 rfl rfl)
theorem dJ3_getChar_42 : decode cJ3_getChar 42 = .ok (.getstatic 59, 3) := dk_178 0 59 (dk_at dksJ3_getChar_1 18 rfl rfl)
theorem dJ3_getChar_45 : decode cJ3_getChar 45 = .ok (.ishl, 1) := dk_120 (dk_at dksJ3_getChar_1 21 rfl rfl)
theorem dJ3_getChar_46 : decode cJ3_getChar 46 = .ok (.aload_n 0, 1) := dk_42 (dk_at dksJ3_getChar_1 22 rfl rfl)
theorem dJ3_getChar_47 : decode cJ3_getChar 47 = .ok (.iload_n 1, 1) := dk_27 (dk_at dksJ3_getChar_1 23 rfl rfl)
theorem dJ3_getChar_48 : decode cJ3_getChar 48 = .ok (.baload, 1) := dk_51 (dk_at dksJ3_getChar_2 0 rfl rfl)
theorem dJ3_getChar_49 : decode cJ3_getChar 49 = .ok (.sipush 255, 3) := dk_17 0 255 (dk_at dksJ3_getChar_2 1 rfl rfl)
theorem dJ3_getChar_52 : decode cJ3_getChar 52 = .ok (.iand, 1) := dk_126 (dk_at dksJ3_getChar_2 4 rfl rfl)
theorem dJ3_getChar_53 : decode cJ3_getChar 53 = .ok (.getstatic 63, 3) := dk_178 0 63 (dk_at dksJ3_getChar_2 5 rfl rfl)
theorem dJ3_getChar_56 : decode cJ3_getChar 56 = .ok (.ishl, 1) := dk_120 (dk_at dksJ3_getChar_2 8 rfl rfl)
theorem dJ3_getChar_57 : decode cJ3_getChar 57 = .ok (.ior, 1) := dk_128 (dk_at dksJ3_getChar_2 9 rfl rfl)
theorem dJ3_getChar_58 : decode cJ3_getChar 58 = .ok (.i2c, 1) := dk_146 (dk_at dksJ3_getChar_2 10 rfl rfl)
theorem dJ3_getChar_59 : decode cJ3_getChar 59 = .ok (.ireturn, 1) := dk_172 (dk_at dksJ3_getChar_2 11 rfl rfl)
theorem q80 : (Jvm.Cond.initialized "java/lang/StringUTF16") ∈ lw_all := lw_g (lw_at lw_m1 11 rfl) rfl
theorem q255 : (Jvm.Cond.static ({ cls := "java/lang/StringUTF16", name := "charAt", desc := "([BI)C" } : Jvm.MethodName)) ∈ lw_all := lw_g (lw_at lw_m1 186 rfl) rfl
theorem q256 : (Jvm.Cond.code ({ cls := "java/lang/StringUTF16", name := "charAt", desc := "([BI)C" } : Jvm.MethodName) prog_19_method_83_code (2 : Nat) (Option.some Jvm.ClassFile.FieldType.char)) ∈ lw_all := lw_g (lw_at lw_m1 187 rfl) rfl
theorem q257 : (Jvm.Cond.methodLink "java/lang/StringUTF16" (67 : Nat) ({ cls := "java/lang/StringUTF16", name := "checkIndex", desc := "(I[B)V" } : Jvm.MethodName)) ∈ lw_all := lw_g (lw_at lw_m1 188 rfl) rfl
theorem q258 : (Jvm.Cond.static ({ cls := "java/lang/StringUTF16", name := "checkIndex", desc := "(I[B)V" } : Jvm.MethodName)) ∈ lw_all := lw_g (lw_at lw_m1 189 rfl) rfl
theorem q259 : (Jvm.Cond.code ({ cls := "java/lang/StringUTF16", name := "checkIndex", desc := "(I[B)V" } : Jvm.MethodName) prog_19_method_91_code (2 : Nat) (Option.none : Option Jvm.ClassFile.FieldType)) ∈ lw_all := lw_g (lw_at lw_m1 190 rfl) rfl
theorem q260 : (Jvm.Cond.methodLink "java/lang/StringUTF16" (48 : Nat) ({ cls := "java/lang/StringUTF16", name := "length", desc := "([B)I" } : Jvm.MethodName)) ∈ lw_all := lw_g (lw_at lw_m1 191 rfl) rfl
theorem q261 : (Jvm.Cond.static ({ cls := "java/lang/StringUTF16", name := "length", desc := "([B)I" } : Jvm.MethodName)) ∈ lw_all := lw_g (lw_at lw_m1 192 rfl) rfl
theorem q262 : (Jvm.Cond.code ({ cls := "java/lang/StringUTF16", name := "length", desc := "([B)I" } : Jvm.MethodName) prog_19_method_6_code (1 : Nat) (Option.some Jvm.ClassFile.FieldType.int)) ∈ lw_all := lw_g (lw_at lw_m1 193 rfl) rfl
theorem q263 : (Jvm.Cond.methodLink "java/lang/StringUTF16" (414 : Nat) ({ cls := "java/lang/String", name := "checkIndex", desc := "(II)V" } : Jvm.MethodName)) ∈ lw_all := lw_g (lw_at lw_m1 194 rfl) rfl
theorem q264 : (Jvm.Cond.methodLink "java/lang/StringUTF16" (71 : Nat) ({ cls := "java/lang/StringUTF16", name := "getChar", desc := "([BI)C" } : Jvm.MethodName)) ∈ lw_all := lw_g (lw_at lw_m1 195 rfl) rfl
theorem q265 : (Jvm.Cond.static ({ cls := "java/lang/StringUTF16", name := "getChar", desc := "([BI)C" } : Jvm.MethodName)) ∈ lw_all := lw_g (lw_at lw_m1 196 rfl) rfl
theorem q266 : (Jvm.Cond.code ({ cls := "java/lang/StringUTF16", name := "getChar", desc := "([BI)C" } : Jvm.MethodName) prog_19_method_5_code (2 : Nat) (Option.some Jvm.ClassFile.FieldType.char)) ∈ lw_all := lw_g (lw_at lw_m1 197 rfl) rfl
theorem q267 : (Jvm.Cond.fieldLink "java/lang/StringUTF16" (44 : Nat) "java/lang/StringUTF16" "$assertionsDisabled" "Z") ∈ lw_all := lw_g (lw_at lw_m1 198 rfl) rfl
theorem q268 : (Jvm.Cond.laysStatic "java/lang/StringUTF16" "$assertionsDisabled" "Z") ∈ lw_tbl := lw_at lw_m1 199 rfl
theorem q269 : (Jvm.Cond.fieldLink "java/lang/StringUTF16" (59 : Nat) "java/lang/StringUTF16" "HI_BYTE_SHIFT" "I") ∈ lw_all := lw_g (lw_at lw_m1 200 rfl) rfl
theorem q270 : (Jvm.Cond.laysStatic "java/lang/StringUTF16" "HI_BYTE_SHIFT" "I") ∈ lw_tbl := lw_at lw_m1 201 rfl
theorem q271 : (Jvm.Cond.fieldLink "java/lang/StringUTF16" (63 : Nat) "java/lang/StringUTF16" "LO_BYTE_SHIFT" "I") ∈ lw_all := lw_g (lw_at lw_m1 202 rfl) rfl
theorem q272 : (Jvm.Cond.laysStatic "java/lang/StringUTF16" "LO_BYTE_SHIFT" "I") ∈ lw_tbl := lw_at lw_m1 203 rfl

/-! java/lang/Throwable -/
set_option maxRecDepth 100000
def RJ4 : String := "java/lang/Throwable"
def TJ4 : u_T := fun k => match k with
  | 0 => ("java/lang/Throwable", "cause", "Ljava/lang/Throwable;", false)
  | 1 => ("java/lang/Throwable", "stackTrace", "[Ljava/lang/StackTraceElement;", false)
  | 2 => ("java/lang/Throwable", "suppressedExceptions", "Ljava/util/List;", false)
  | 3 => ("java/lang/Throwable", "detailMessage", "Ljava/lang/String;", false)
  | _ => ("java/lang/Throwable", "backtrace", "Ljava/lang/Object;", false)
def tyJ4 : Nat → FieldType := fun k => match k with
  | 0 => .object "java/lang/Throwable"
  | 1 => .array (.object "java/lang/StackTraceElement")
  | 2 => .object "java/util/List"
  | 3 => .object "java/lang/String"
  | _ => .object "java/lang/Object"
abbrev wsJ40 : List Cond := u_ws RJ4 TJ4 5
theorem nmJ4 : ∀ a, a < 5 → ∀ b, b < 5 → a ≠ b → (TJ4 a).2.1 ≠ (TJ4 b).2.1 := by decide +kernel
theorem tyJ4_ok : ∀ k, k < 5 → parseFieldDescriptor (TJ4 k).2.2.1 = some (tyJ4 k) := by decide +kernel
abbrev cJ4_init : ByteArray := prog_21_method_1_code
def yJ4_init : MethodName := ⟨RJ4, "<init>", "()V"⟩
def dkwJ4_init_1 : List UInt8 := [182, 0, 27, 87, 177]
abbrev dktJ4_init_1 : List UInt8 := dkwJ4_init_1 ++ []
def dkwJ4_init_0 : List UInt8 := [42, 183, 0, 1, 42, 42, 181, 0, 7, 42, 178, 0, 13, 181, 0, 17, 42, 178, 0, 20, 181, 0, 24, 42]
abbrev dktJ4_init_0 : List UInt8 := dkwJ4_init_0 ++ dktJ4_init_1
theorem dksJ4_init_0 : cJ4_init.data.toList.drop 0 = dktJ4_init_0 := by decide +kernel
theorem dksJ4_init_1 : cJ4_init.data.toList.drop 24 = dktJ4_init_1 := dk_seg dksJ4_init_0 24 rfl rfl
theorem dJ4_init_0 : decode cJ4_init 0 = .ok (.aload_n 0, 1) := dk_42 (dk_at dksJ4_init_0 0 rfl rfl)
theorem dJ4_init_1 : decode cJ4_init 1 = .ok (.invokespecial 1, 3) := dk_183 0 1 (dk_at dksJ4_init_0 1 rfl rfl)
theorem dJ4_init_4 : decode cJ4_init 4 = .ok (.aload_n 0, 1) := dk_42 (dk_at dksJ4_init_0 4 rfl rfl)
theorem dJ4_init_5 : decode cJ4_init 5 = .ok (.aload_n 0, 1) := dk_42 (dk_at dksJ4_init_0 5 rfl rfl)
theorem dJ4_init_6 : decode cJ4_init 6 = .ok (.putfield 7, 3) := dk_181 0 7 (dk_at dksJ4_init_0 6 rfl rfl)
theorem dJ4_init_9 : decode cJ4_init 9 = .ok (.aload_n 0, 1) := dk_42 (dk_at dksJ4_init_0 9 rfl rfl)
theorem dJ4_init_10 : decode cJ4_init 10 = .ok (.getstatic 13, 3) := dk_178 0 13 (dk_at dksJ4_init_0 10 rfl rfl)
theorem dJ4_init_13 : decode cJ4_init 13 = .ok (.putfield 17, 3) := dk_181 0 17 (dk_at dksJ4_init_0 13 rfl rfl)
theorem dJ4_init_16 : decode cJ4_init 16 = .ok (.aload_n 0, 1) := dk_42 (dk_at dksJ4_init_0 16 rfl rfl)
theorem dJ4_init_17 : decode cJ4_init 17 = .ok (.getstatic 20, 3) := dk_178 0 20 (dk_at dksJ4_init_0 17 rfl rfl)
theorem dJ4_init_20 : decode cJ4_init 20 = .ok (.putfield 24, 3) := dk_181 0 24 (dk_at dksJ4_init_0 20 rfl rfl)
theorem dJ4_init_23 : decode cJ4_init 23 = .ok (.aload_n 0, 1) := dk_42 (dk_at dksJ4_init_0 23 rfl rfl)
theorem dJ4_init_24 : decode cJ4_init 24 = .ok (.invokevirtual 27, 3) := dk_182 0 27 (dk_at dksJ4_init_1 0 rfl rfl)
theorem dJ4_init_27 : decode cJ4_init 27 = .ok (.pop, 1) := dk_87 (dk_at dksJ4_init_1 3 rfl rfl)
theorem dJ4_init_28 : decode cJ4_init 28 = .ok (.return_, 1) := dk_177 (dk_at dksJ4_init_1 4 rfl rfl)
abbrev cJ4_init_2 : ByteArray := prog_21_method_5_code
def yJ4_init_2 : MethodName := ⟨RJ4, "<init>", "(Ljava/lang/String;Ljava/lang/Throwable;ZZ)V"⟩
def dkwJ4_init_2_2 : List UInt8 := [44, 181, 0, 7, 29, 154, 0, 8, 42, 1, 181, 0, 24, 177]
abbrev dktJ4_init_2_2 : List UInt8 := dkwJ4_init_2_2 ++ []
def dkwJ4_init_2_1 : List UInt8 := [21, 4, 153, 0, 11, 42, 182, 0, 27, 87, 167, 0, 8, 42, 1, 181, 0, 17, 42, 43, 181, 0, 31, 42]
abbrev dktJ4_init_2_1 : List UInt8 := dkwJ4_init_2_1 ++ dktJ4_init_2_2
def dkwJ4_init_2_0 : List UInt8 := [42, 183, 0, 1, 42, 42, 181, 0, 7, 42, 178, 0, 13, 181, 0, 17, 42, 178, 0, 20, 181, 0, 24]
abbrev dktJ4_init_2_0 : List UInt8 := dkwJ4_init_2_0 ++ dktJ4_init_2_1
theorem dksJ4_init_2_0 : cJ4_init_2.data.toList.drop 0 = dktJ4_init_2_0 := by decide +kernel
theorem dksJ4_init_2_1 : cJ4_init_2.data.toList.drop 23 = dktJ4_init_2_1 := dk_seg dksJ4_init_2_0 23 rfl rfl
theorem dksJ4_init_2_2 : cJ4_init_2.data.toList.drop 47 = dktJ4_init_2_2 := dk_seg dksJ4_init_2_1 24 rfl rfl
theorem dJ4_init_2_0 : decode cJ4_init_2 0 = .ok (.aload_n 0, 1) := dk_42 (dk_at dksJ4_init_2_0 0 rfl rfl)
theorem dJ4_init_2_1 : decode cJ4_init_2 1 = .ok (.invokespecial 1, 3) := dk_183 0 1 (dk_at dksJ4_init_2_0 1 rfl rfl)
theorem dJ4_init_2_4 : decode cJ4_init_2 4 = .ok (.aload_n 0, 1) := dk_42 (dk_at dksJ4_init_2_0 4 rfl rfl)
theorem dJ4_init_2_5 : decode cJ4_init_2 5 = .ok (.aload_n 0, 1) := dk_42 (dk_at dksJ4_init_2_0 5 rfl rfl)
theorem dJ4_init_2_6 : decode cJ4_init_2 6 = .ok (.putfield 7, 3) := dk_181 0 7 (dk_at dksJ4_init_2_0 6 rfl rfl)
theorem dJ4_init_2_9 : decode cJ4_init_2 9 = .ok (.aload_n 0, 1) := dk_42 (dk_at dksJ4_init_2_0 9 rfl rfl)
theorem dJ4_init_2_10 : decode cJ4_init_2 10 = .ok (.getstatic 13, 3) := dk_178 0 13 (dk_at dksJ4_init_2_0 10 rfl rfl)
theorem dJ4_init_2_13 : decode cJ4_init_2 13 = .ok (.putfield 17, 3) := dk_181 0 17 (dk_at dksJ4_init_2_0 13 rfl rfl)
theorem dJ4_init_2_16 : decode cJ4_init_2 16 = .ok (.aload_n 0, 1) := dk_42 (dk_at dksJ4_init_2_0 16 rfl rfl)
theorem dJ4_init_2_17 : decode cJ4_init_2 17 = .ok (.getstatic 20, 3) := dk_178 0 20 (dk_at dksJ4_init_2_0 17 rfl rfl)
theorem dJ4_init_2_20 : decode cJ4_init_2 20 = .ok (.putfield 24, 3) := dk_181 0 24 (dk_at dksJ4_init_2_0 20 rfl rfl)
theorem dJ4_init_2_23 : decode cJ4_init_2 23 = .ok (.iload 4, 2) := dk_21 4 (dk_at dksJ4_init_2_1 0 rfl rfl)
theorem dJ4_init_2_25 : decode cJ4_init_2 25 = .ok (.ifCond .eq 11, 3) := dk_153 0 11 (dk_at dksJ4_init_2_1 2 rfl rfl)
theorem dJ4_init_2_28 : decode cJ4_init_2 28 = .ok (.aload_n 0, 1) := dk_42 (dk_at dksJ4_init_2_1 5 rfl rfl)
theorem dJ4_init_2_29 : decode cJ4_init_2 29 = .ok (.invokevirtual 27, 3) := dk_182 0 27 (dk_at dksJ4_init_2_1 6 rfl rfl)
theorem dJ4_init_2_32 : decode cJ4_init_2 32 = .ok (.pop, 1) := dk_87 (dk_at dksJ4_init_2_1 9 rfl rfl)
theorem dJ4_init_2_33 : decode cJ4_init_2 33 = .ok (.goto 8, 3) := dk_167 0 8 (dk_at dksJ4_init_2_1 10 rfl rfl)
theorem dJ4_init_2_36 : decode cJ4_init_2 36 = .ok (.aload_n 0, 1) := dk_42 (dk_at dksJ4_init_2_1 13 rfl rfl)
theorem dJ4_init_2_37 : decode cJ4_init_2 37 = .ok (.aconst_null, 1) := dk_1 (dk_at dksJ4_init_2_1 14 rfl rfl)
theorem dJ4_init_2_38 : decode cJ4_init_2 38 = .ok (.putfield 17, 3) := dk_181 0 17 (dk_at dksJ4_init_2_1 15 rfl rfl)
theorem dJ4_init_2_41 : decode cJ4_init_2 41 = .ok (.aload_n 0, 1) := dk_42 (dk_at dksJ4_init_2_1 18 rfl rfl)
theorem dJ4_init_2_42 : decode cJ4_init_2 42 = .ok (.aload_n 1, 1) := dk_43 (dk_at dksJ4_init_2_1 19 rfl rfl)
theorem dJ4_init_2_43 : decode cJ4_init_2 43 = .ok (.putfield 31, 3) := dk_181 0 31 (dk_at dksJ4_init_2_1 20 rfl rfl)
theorem dJ4_init_2_46 : decode cJ4_init_2 46 = .ok (.aload_n 0, 1) := dk_42 (dk_at dksJ4_init_2_1 23 rfl rfl)
theorem dJ4_init_2_47 : decode cJ4_init_2 47 = .ok (.aload_n 2, 1) := dk_44 (dk_at dksJ4_init_2_2 0 rfl rfl)
theorem dJ4_init_2_48 : decode cJ4_init_2 48 = .ok (.putfield 7, 3) := dk_181 0 7 (dk_at dksJ4_init_2_2 1 rfl rfl)
theorem dJ4_init_2_51 : decode cJ4_init_2 51 = .ok (.iload_n 3, 1) := dk_29 (dk_at dksJ4_init_2_2 4 rfl rfl)
theorem dJ4_init_2_52 : decode cJ4_init_2 52 = .ok (.ifCond .ne 8, 3) := dk_154 0 8 (dk_at dksJ4_init_2_2 5 rfl rfl)
theorem dJ4_init_2_55 : decode cJ4_init_2 55 = .ok (.aload_n 0, 1) := dk_42 (dk_at dksJ4_init_2_2 8 rfl rfl)
theorem dJ4_init_2_56 : decode cJ4_init_2 56 = .ok (.aconst_null, 1) := dk_1 (dk_at dksJ4_init_2_2 9 rfl rfl)
theorem dJ4_init_2_57 : decode cJ4_init_2 57 = .ok (.putfield 24, 3) := dk_181 0 24 (dk_at dksJ4_init_2_2 10 rfl rfl)
theorem dJ4_init_2_60 : decode cJ4_init_2 60 = .ok (.return_, 1) := dk_177 (dk_at dksJ4_init_2_2 13 rfl rfl)
theorem q81 : (Jvm.Cond.initialized "java/lang/Throwable") ∈ lw_all := lw_g (lw_at lw_m1 12 rfl) rfl
theorem q313 : (Jvm.Cond.declares ({ cls := "java/lang/Throwable", name := "<init>", desc := "()V" } : Jvm.MethodName)) ∈ lw_tbl := lw_at lw_m2 4 rfl
theorem q314 : (Jvm.Cond.declares ({ cls := "java/lang/Throwable", name := "<init>", desc := "(Ljava/lang/String;)V" } : Jvm.MethodName)) ∈ lw_tbl := lw_at lw_m2 5 rfl
theorem q318 : (Jvm.Cond.lays "java/lang/Throwable" "java/lang/Throwable" "cause" "Ljava/lang/Throwable;") ∈ lw_all := lw_g (lw_at lw_m2 9 rfl) rfl
theorem q320 : (Jvm.Cond.lays "java/lang/Throwable" "java/lang/Throwable" "stackTrace" "[Ljava/lang/StackTraceElement;") ∈ lw_all := lw_g (lw_at lw_m2 11 rfl) rfl
theorem q322 : (Jvm.Cond.lays "java/lang/Throwable" "java/lang/Throwable" "suppressedExceptions" "Ljava/util/List;") ∈ lw_all := lw_g (lw_at lw_m2 13 rfl) rfl
theorem q324 : (Jvm.Cond.lays "java/lang/Throwable" "java/lang/Throwable" "detailMessage" "Ljava/lang/String;") ∈ lw_all := lw_g (lw_at lw_m2 15 rfl) rfl
theorem q326 : (Jvm.Cond.lays "java/lang/Throwable" "java/lang/Throwable" "backtrace" "Ljava/lang/Object;") ∈ lw_all := lw_g (lw_at lw_m2 17 rfl) rfl
theorem q327 : (Jvm.Cond.fieldLink "java/lang/Throwable" (198 : Nat) "java/lang/Throwable" "backtrace" "Ljava/lang/Object;") ∈ lw_all := lw_g (lw_at lw_m2 18 rfl) rfl
theorem q328 : (Jvm.Cond.superclass "java/lang/Throwable" "java/lang/Object") ∈ lw_all := lw_g (lw_at lw_m2 19 rfl) rfl
theorem q329 : (Jvm.Cond.instanceMethod ({ cls := "java/lang/Throwable", name := "<init>", desc := "()V" } : Jvm.MethodName)) ∈ lw_all := lw_g (lw_at lw_m2 20 rfl) rfl
theorem q330 : (Jvm.Cond.code ({ cls := "java/lang/Throwable", name := "<init>", desc := "()V" } : Jvm.MethodName) prog_21_method_1_code (1 : Nat) (Option.none : Option Jvm.ClassFile.FieldType)) ∈ lw_all := lw_g (lw_at lw_m2 21 rfl) rfl
theorem q331 : (Jvm.Cond.methodLink "java/lang/Throwable" (1 : Nat) ({ cls := "java/lang/Object", name := "<init>", desc := "()V" } : Jvm.MethodName)) ∈ lw_all := lw_g (lw_at lw_m2 22 rfl) rfl
theorem q332 : (Jvm.Cond.fieldLink "java/lang/Throwable" (13 : Nat) "java/lang/Throwable" "UNASSIGNED_STACK" "[Ljava/lang/StackTraceElement;") ∈ lw_all := lw_g (lw_at lw_m2 23 rfl) rfl
theorem q333 : (Jvm.Cond.laysStatic "java/lang/Throwable" "UNASSIGNED_STACK" "[Ljava/lang/StackTraceElement;") ∈ lw_tbl := lw_at lw_m2 24 rfl
theorem q334 : (Jvm.Cond.fieldLink "java/lang/Throwable" (20 : Nat) "java/lang/Throwable" "SUPPRESSED_SENTINEL" "Ljava/util/List;") ∈ lw_all := lw_g (lw_at lw_m2 25 rfl) rfl
theorem q335 : (Jvm.Cond.laysStatic "java/lang/Throwable" "SUPPRESSED_SENTINEL" "Ljava/util/List;") ∈ lw_tbl := lw_at lw_m2 26 rfl
theorem q336 : (Jvm.Cond.methodLink "java/lang/Throwable" (27 : Nat) ({ cls := "java/lang/Throwable", name := "fillInStackTrace", desc := "()Ljava/lang/Throwable;" } : Jvm.MethodName)) ∈ lw_all := lw_g (lw_at lw_m2 27 rfl) rfl
theorem q337 : (Jvm.Cond.instanceMethod ({ cls := "java/lang/Throwable", name := "fillInStackTrace", desc := "()Ljava/lang/Throwable;" } : Jvm.MethodName)) ∈ lw_all := lw_g (lw_at lw_m2 28 rfl) rfl
theorem q338 : (Jvm.Cond.sameMethod "java/lang/Throwable" "java/lang/Throwable" "fillInStackTrace" "()Ljava/lang/Throwable;") ∈ lw_all := lw_g (lw_at lw_m2 29 rfl) rfl
theorem q349 : (Jvm.Cond.declares ({ cls := "java/lang/Throwable", name := "fillInStackTrace", desc := "()Ljava/lang/Throwable;" } : Jvm.MethodName)) ∈ lw_tbl := lw_at lw_m2 40 rfl
theorem q353 : (Jvm.Cond.codeSync ({ cls := "java/lang/Throwable", name := "fillInStackTrace", desc := "()Ljava/lang/Throwable;" } : Jvm.MethodName) prog_21_method_18_code (1 : Nat) (Option.some (Jvm.ClassFile.FieldType.object "java/lang/Throwable"))) ∈ lw_all := lw_g (lw_at lw_m2 44 rfl) rfl
theorem q354 : (Jvm.Cond.methodLink "java/lang/Throwable" (202 : Nat) ({ cls := "java/lang/Throwable", name := "fillInStackTrace", desc := "(I)Ljava/lang/Throwable;" } : Jvm.MethodName)) ∈ lw_all := lw_g (lw_at lw_m2 45 rfl) rfl
theorem q355 : (Jvm.Cond.privateMethod ({ cls := "java/lang/Throwable", name := "fillInStackTrace", desc := "(I)Ljava/lang/Throwable;" } : Jvm.MethodName)) ∈ lw_tbl := lw_at lw_m2 46 rfl
theorem q356 : (Jvm.Cond.instanceMethod ({ cls := "java/lang/Throwable", name := "fillInStackTrace", desc := "(I)Ljava/lang/Throwable;" } : Jvm.MethodName)) ∈ lw_all := lw_g (lw_at lw_m2 47 rfl) rfl
theorem q357 : (Jvm.Cond.instantiable "java/lang/Throwable" (6 : Nat)) ∈ lw_all := lw_g (lw_at lw_m2 48 rfl) rfl
theorem q358 : (Jvm.Cond.native ({ cls := "java/lang/Throwable", name := "fillInStackTrace", desc := "(I)Ljava/lang/Throwable;" } : Jvm.MethodName)) ∈ lw_all := lw_g (lw_at lw_m2 49 rfl) rfl
theorem q370 : (Jvm.Cond.instanceMethod ({ cls := "java/lang/Throwable", name := "<init>", desc := "(Ljava/lang/String;Ljava/lang/Throwable;ZZ)V" } : Jvm.MethodName)) ∈ lw_all := lw_g (lw_at lw_m2 61 rfl) rfl
theorem q371 : (Jvm.Cond.code ({ cls := "java/lang/Throwable", name := "<init>", desc := "(Ljava/lang/String;Ljava/lang/Throwable;ZZ)V" } : Jvm.MethodName) prog_21_method_5_code (5 : Nat) (Option.none : Option Jvm.ClassFile.FieldType)) ∈ lw_all := lw_g (lw_at lw_m2 62 rfl) rfl
theorem q372 : (Jvm.Cond.fieldLink "java/lang/Throwable" (198 : Nat) "java/lang/Throwable" "backtrace" "Ljava/lang/Object;") ∈ lw_all := lw_g (lw_at lw_m2 63 rfl) rfl
theorem q373 : (Jvm.Cond.fieldLink "java/lang/Throwable" (31 : Nat) "java/lang/Throwable" "detailMessage" "Ljava/lang/String;") ∈ lw_all := lw_g (lw_at lw_m2 64 rfl) rfl
theorem q374 : (Jvm.Cond.fieldLink "java/lang/Throwable" (7 : Nat) "java/lang/Throwable" "cause" "Ljava/lang/Throwable;") ∈ lw_all := lw_g (lw_at lw_m2 65 rfl) rfl
theorem q375 : (Jvm.Cond.fieldLink "java/lang/Throwable" (17 : Nat) "java/lang/Throwable" "stackTrace" "[Ljava/lang/StackTraceElement;") ∈ lw_all := lw_g (lw_at lw_m2 66 rfl) rfl
theorem q376 : (Jvm.Cond.fieldLink "java/lang/Throwable" (24 : Nat) "java/lang/Throwable" "suppressedExceptions" "Ljava/util/List;") ∈ lw_all := lw_g (lw_at lw_m2 67 rfl) rfl
theorem q377 : (Jvm.Cond.soleField "java/lang/Throwable" "backtrace") ∈ lw_all := lw_g (lw_at lw_m2 68 rfl) rfl
theorem q378 : (Jvm.Cond.soleField "java/lang/Throwable" "detailMessage") ∈ lw_all := lw_g (lw_at lw_m2 69 rfl) rfl
theorem q379 : (Jvm.Cond.soleField "java/lang/Throwable" "cause") ∈ lw_all := lw_g (lw_at lw_m2 70 rfl) rfl
theorem q380 : (Jvm.Cond.soleField "java/lang/Throwable" "stackTrace") ∈ lw_all := lw_g (lw_at lw_m2 71 rfl) rfl
theorem q382 : (Jvm.Cond.soleField "java/lang/Throwable" "depth") ∈ lw_all := lw_g (lw_at lw_m2 73 rfl) rfl
theorem q383 : (Jvm.Cond.soleField "java/lang/Throwable" "suppressedExceptions") ∈ lw_all := lw_g (lw_at lw_m2 74 rfl) rfl
theorem q1173 : (Jvm.Cond.sameMethod "java/lang/Throwable" "java/lang/Throwable" "fillInStackTrace" "(I)Ljava/lang/Throwable;") ∈ lw_all := lw_g (lw_at lw_m5 144 rfl) rfl
theorem in_J4 : ∀ w ∈ wsJ40, w ∈ lw_all := lw_in wsJ40 [318, 320, 322, 324, 326] (by decide +kernel) (by decide +kernel)

/-! java/lang/Exception -/
set_option maxRecDepth 100000
def RJ5 : String := "java/lang/Exception"
abbrev cJ5_init : ByteArray := prog_12_method_5_code
def yJ5_init : MethodName := ⟨RJ5, "<init>", "(Ljava/lang/String;Ljava/lang/Throwable;ZZ)V"⟩
def dkwJ5_init_0 : List UInt8 := [42, 43, 44, 29, 21, 4, 183, 0, 16, 177]
abbrev dktJ5_init_0 : List UInt8 := dkwJ5_init_0 ++ []
theorem dksJ5_init_0 : cJ5_init.data.toList.drop 0 = dktJ5_init_0 := by decide +kernel
theorem dJ5_init_0 : decode cJ5_init 0 = .ok (.aload_n 0, 1) := dk_42 (dk_at dksJ5_init_0 0 rfl rfl)
theorem dJ5_init_1 : decode cJ5_init 1 = .ok (.aload_n 1, 1) := dk_43 (dk_at dksJ5_init_0 1 rfl rfl)
theorem dJ5_init_2 : decode cJ5_init 2 = .ok (.aload_n 2, 1) := dk_44 (dk_at dksJ5_init_0 2 rfl rfl)
theorem dJ5_init_3 : decode cJ5_init 3 = .ok (.iload_n 3, 1) := dk_29 (dk_at dksJ5_init_0 3 rfl rfl)
theorem dJ5_init_4 : decode cJ5_init 4 = .ok (.iload 4, 2) := dk_21 4 (dk_at dksJ5_init_0 4 rfl rfl)
theorem dJ5_init_6 : decode cJ5_init 6 = .ok (.invokespecial 16, 3) := dk_183 0 16 (dk_at dksJ5_init_0 6 rfl rfl)
theorem dJ5_init_9 : decode cJ5_init 9 = .ok (.return_, 1) := dk_177 (dk_at dksJ5_init_0 9 rfl rfl)
abbrev cJ5_init_2 : ByteArray := prog_12_method_1_code
def yJ5_init_2 : MethodName := ⟨RJ5, "<init>", "()V"⟩
theorem dJ5_init_2_0 : decode cJ5_init_2 0 = .ok (.aload_n 0, 1) := by decide +kernel
theorem dJ5_init_2_1 : decode cJ5_init_2 1 = .ok (.invokespecial 1, 3) := by decide +kernel
theorem dJ5_init_2_4 : decode cJ5_init_2 4 = .ok (.return_, 1) := by decide +kernel
theorem q82 : (Jvm.Cond.initialized "java/lang/Exception") ∈ lw_all := lw_g (lw_at lw_m1 13 rfl) rfl
theorem q311 : (Jvm.Cond.declares ({ cls := "java/lang/Exception", name := "<init>", desc := "()V" } : Jvm.MethodName)) ∈ lw_tbl := lw_at lw_m2 2 rfl
theorem q312 : (Jvm.Cond.declares ({ cls := "java/lang/Exception", name := "<init>", desc := "(Ljava/lang/String;)V" } : Jvm.MethodName)) ∈ lw_tbl := lw_at lw_m2 3 rfl
theorem q352 : (Jvm.Cond.superclass "java/lang/Exception" "java/lang/Throwable") ∈ lw_all := lw_g (lw_at lw_m2 43 rfl) rfl
theorem q367 : (Jvm.Cond.instanceMethod ({ cls := "java/lang/Exception", name := "<init>", desc := "(Ljava/lang/String;Ljava/lang/Throwable;ZZ)V" } : Jvm.MethodName)) ∈ lw_all := lw_g (lw_at lw_m2 58 rfl) rfl
theorem q368 : (Jvm.Cond.code ({ cls := "java/lang/Exception", name := "<init>", desc := "(Ljava/lang/String;Ljava/lang/Throwable;ZZ)V" } : Jvm.MethodName) prog_12_method_5_code (5 : Nat) (Option.none : Option Jvm.ClassFile.FieldType)) ∈ lw_all := lw_g (lw_at lw_m2 59 rfl) rfl
theorem q369 : (Jvm.Cond.methodLink "java/lang/Exception" (16 : Nat) ({ cls := "java/lang/Throwable", name := "<init>", desc := "(Ljava/lang/String;Ljava/lang/Throwable;ZZ)V" } : Jvm.MethodName)) ∈ lw_all := lw_g (lw_at lw_m2 60 rfl) rfl
theorem q623 : (Jvm.Cond.instanceMethod ({ cls := "java/lang/Exception", name := "<init>", desc := "()V" } : Jvm.MethodName)) ∈ lw_all := lw_g (lw_at lw_m3 74 rfl) rfl
theorem q624 : (Jvm.Cond.code ({ cls := "java/lang/Exception", name := "<init>", desc := "()V" } : Jvm.MethodName) prog_12_method_1_code (1 : Nat) (Option.none : Option Jvm.ClassFile.FieldType)) ∈ lw_all := lw_g (lw_at lw_m3 75 rfl) rfl
theorem q625 : (Jvm.Cond.methodLink "java/lang/Exception" (1 : Nat) ({ cls := "java/lang/Throwable", name := "<init>", desc := "()V" } : Jvm.MethodName)) ∈ lw_all := lw_g (lw_at lw_m3 76 rfl) rfl

/-! java/lang/RuntimeException -/
set_option maxRecDepth 100000
def RJ6 : String := "java/lang/RuntimeException"
abbrev cJ6_init : ByteArray := prog_16_method_5_code
def yJ6_init : MethodName := ⟨RJ6, "<init>", "(Ljava/lang/String;Ljava/lang/Throwable;ZZ)V"⟩
def dkwJ6_init_0 : List UInt8 := [42, 43, 44, 29, 21, 4, 183, 0, 16, 177]
abbrev dktJ6_init_0 : List UInt8 := dkwJ6_init_0 ++ []
theorem dksJ6_init_0 : cJ6_init.data.toList.drop 0 = dktJ6_init_0 := by decide +kernel
theorem dJ6_init_0 : decode cJ6_init 0 = .ok (.aload_n 0, 1) := dk_42 (dk_at dksJ6_init_0 0 rfl rfl)
theorem dJ6_init_1 : decode cJ6_init 1 = .ok (.aload_n 1, 1) := dk_43 (dk_at dksJ6_init_0 1 rfl rfl)
theorem dJ6_init_2 : decode cJ6_init 2 = .ok (.aload_n 2, 1) := dk_44 (dk_at dksJ6_init_0 2 rfl rfl)
theorem dJ6_init_3 : decode cJ6_init 3 = .ok (.iload_n 3, 1) := dk_29 (dk_at dksJ6_init_0 3 rfl rfl)
theorem dJ6_init_4 : decode cJ6_init 4 = .ok (.iload 4, 2) := dk_21 4 (dk_at dksJ6_init_0 4 rfl rfl)
theorem dJ6_init_6 : decode cJ6_init 6 = .ok (.invokespecial 16, 3) := dk_183 0 16 (dk_at dksJ6_init_0 6 rfl rfl)
theorem dJ6_init_9 : decode cJ6_init 9 = .ok (.return_, 1) := dk_177 (dk_at dksJ6_init_0 9 rfl rfl)
abbrev cJ6_init_2 : ByteArray := prog_16_method_1_code
def yJ6_init_2 : MethodName := ⟨RJ6, "<init>", "()V"⟩
theorem dJ6_init_2_0 : decode cJ6_init_2 0 = .ok (.aload_n 0, 1) := by decide +kernel
theorem dJ6_init_2_1 : decode cJ6_init_2 1 = .ok (.invokespecial 1, 3) := by decide +kernel
theorem dJ6_init_2_4 : decode cJ6_init_2 4 = .ok (.return_, 1) := by decide +kernel
theorem q83 : (Jvm.Cond.initialized "java/lang/RuntimeException") ∈ lw_all := lw_g (lw_at lw_m1 14 rfl) rfl
theorem q309 : (Jvm.Cond.declares ({ cls := "java/lang/RuntimeException", name := "<init>", desc := "()V" } : Jvm.MethodName)) ∈ lw_tbl := lw_at lw_m2 0 rfl
theorem q310 : (Jvm.Cond.declares ({ cls := "java/lang/RuntimeException", name := "<init>", desc := "(Ljava/lang/String;)V" } : Jvm.MethodName)) ∈ lw_tbl := lw_at lw_m2 1 rfl
theorem q348 : (Jvm.Cond.sameMethod "java/lang/RuntimeException" "java/lang/Throwable" "fillInStackTrace" "()Ljava/lang/Throwable;") ∈ lw_all := lw_g (lw_at lw_m2 39 rfl) rfl
theorem q351 : (Jvm.Cond.superclass "java/lang/RuntimeException" "java/lang/Exception") ∈ lw_all := lw_g (lw_at lw_m2 42 rfl) rfl
theorem q364 : (Jvm.Cond.instanceMethod ({ cls := "java/lang/RuntimeException", name := "<init>", desc := "(Ljava/lang/String;Ljava/lang/Throwable;ZZ)V" } : Jvm.MethodName)) ∈ lw_all := lw_g (lw_at lw_m2 55 rfl) rfl
theorem q365 : (Jvm.Cond.code ({ cls := "java/lang/RuntimeException", name := "<init>", desc := "(Ljava/lang/String;Ljava/lang/Throwable;ZZ)V" } : Jvm.MethodName) prog_16_method_5_code (5 : Nat) (Option.none : Option Jvm.ClassFile.FieldType)) ∈ lw_all := lw_g (lw_at lw_m2 56 rfl) rfl
theorem q366 : (Jvm.Cond.methodLink "java/lang/RuntimeException" (16 : Nat) ({ cls := "java/lang/Exception", name := "<init>", desc := "(Ljava/lang/String;Ljava/lang/Throwable;ZZ)V" } : Jvm.MethodName)) ∈ lw_all := lw_g (lw_at lw_m2 57 rfl) rfl
theorem q620 : (Jvm.Cond.instanceMethod ({ cls := "java/lang/RuntimeException", name := "<init>", desc := "()V" } : Jvm.MethodName)) ∈ lw_all := lw_g (lw_at lw_m3 71 rfl) rfl
theorem q621 : (Jvm.Cond.code ({ cls := "java/lang/RuntimeException", name := "<init>", desc := "()V" } : Jvm.MethodName) prog_16_method_1_code (1 : Nat) (Option.none : Option Jvm.ClassFile.FieldType)) ∈ lw_all := lw_g (lw_at lw_m3 72 rfl) rfl
theorem q622 : (Jvm.Cond.methodLink "java/lang/RuntimeException" (1 : Nat) ({ cls := "java/lang/Exception", name := "<init>", desc := "()V" } : Jvm.MethodName)) ∈ lw_all := lw_g (lw_at lw_m3 73 rfl) rfl
theorem q640 : (Jvm.Cond.castable "java/lang/RuntimeException" "java/lang/Throwable") ∈ lw_tbl := lw_at lw_m3 91 rfl

/-! java/lang/Integer -/
set_option maxRecDepth 100000
def RJ7 : String := "java/lang/Integer"
abbrev cJ7_bitCount : ByteArray := prog_13_method_49_code
def yJ7_bitCount : MethodName := ⟨RJ7, "bitCount", "(I)I"⟩
def dkwJ7_bitCount_2 : List UInt8 := [26, 16, 63, 126, 172]
abbrev dktJ7_bitCount_2 : List UInt8 := dkwJ7_bitCount_2 ++ []
def dkwJ7_bitCount_1 : List UInt8 := [26, 26, 7, 124, 96, 19, 1, 11, 126, 59, 26, 26, 16, 8, 124, 96, 59, 26, 26, 16, 16, 124, 96, 59]
abbrev dktJ7_bitCount_1 : List UInt8 := dkwJ7_bitCount_1 ++ dktJ7_bitCount_2
def dkwJ7_bitCount_0 : List UInt8 := [26, 26, 4, 124, 19, 1, 9, 126, 100, 59, 26, 19, 1, 10, 126, 26, 5, 124, 19, 1, 10, 126, 96, 59]
abbrev dktJ7_bitCount_0 : List UInt8 := dkwJ7_bitCount_0 ++ dktJ7_bitCount_1
theorem dksJ7_bitCount_0 : cJ7_bitCount.data.toList.drop 0 = dktJ7_bitCount_0 := by decide +kernel
theorem dksJ7_bitCount_1 : cJ7_bitCount.data.toList.drop 24 = dktJ7_bitCount_1 := dk_seg dksJ7_bitCount_0 24 rfl rfl
theorem dksJ7_bitCount_2 : cJ7_bitCount.data.toList.drop 48 = dktJ7_bitCount_2 := dk_seg dksJ7_bitCount_1 24 rfl rfl
theorem dJ7_bitCount_0 : decode cJ7_bitCount 0 = .ok (.iload_n 0, 1) := dk_26 (dk_at dksJ7_bitCount_0 0 rfl rfl)
theorem dJ7_bitCount_1 : decode cJ7_bitCount 1 = .ok (.iload_n 0, 1) := dk_26 (dk_at dksJ7_bitCount_0 1 rfl rfl)
theorem dJ7_bitCount_2 : decode cJ7_bitCount 2 = .ok (.iconst 1, 1) := dk_4 (dk_at dksJ7_bitCount_0 2 rfl rfl)
theorem dJ7_bitCount_3 : decode cJ7_bitCount 3 = .ok (.iushr, 1) := dk_124 (dk_at dksJ7_bitCount_0 3 rfl rfl)
theorem dJ7_bitCount_4 : decode cJ7_bitCount 4 = .ok (.ldc_w 265, 3) := dk_19 1 9 (dk_at dksJ7_bitCount_0 4 rfl rfl)
theorem dJ7_bitCount_7 : decode cJ7_bitCount 7 = .ok (.iand, 1) := dk_126 (dk_at dksJ7_bitCount_0 7 rfl rfl)
theorem dJ7_bitCount_8 : decode cJ7_bitCount 8 = .ok (.isub, 1) := dk_100 (dk_at dksJ7_bitCount_0 8 rfl rfl)
theorem dJ7_bitCount_9 : decode cJ7_bitCount 9 = .ok (.istore_n 0, 1) := dk_59 (dk_at dksJ7_bitCount_0 9 rfl rfl)
theorem dJ7_bitCount_10 : decode cJ7_bitCount 10 = .ok (.iload_n 0, 1) := dk_26 (dk_at dksJ7_bitCount_0 10 rfl rfl)
theorem dJ7_bitCount_11 : decode cJ7_bitCount 11 = .ok (.ldc_w 266, 3) := dk_19 1 10 (dk_at dksJ7_bitCount_0 11 rfl rfl)
theorem dJ7_bitCount_14 : decode cJ7_bitCount 14 = .ok (.iand, 1) := dk_126 (dk_at dksJ7_bitCount_0 14 rfl rfl)
theorem dJ7_bitCount_15 : decode cJ7_bitCount 15 = .ok (.iload_n 0, 1) := dk_26 (dk_at dksJ7_bitCount_0 15 rfl rfl)
theorem dJ7_bitCount_16 : decode cJ7_bitCount 16 = .ok (.iconst 2, 1) := dk_5 (dk_at dksJ7_bitCount_0 16 rfl rfl)
theorem dJ7_bitCount_17 : decode cJ7_bitCount 17 = .ok (.iushr, 1) := dk_124 (dk_at dksJ7_bitCount_0 17 rfl rfl)
theorem dJ7_bitCount_18 : decode cJ7_bitCount 18 = .ok (.ldc_w 266, 3) := dk_19 1 10 (dk_at dksJ7_bitCount_0 18 rfl rfl)
theorem dJ7_bitCount_21 : decode cJ7_bitCount 21 = .ok (.iand, 1) := dk_126 (dk_at dksJ7_bitCount_0 21 rfl rfl)
theorem dJ7_bitCount_22 : decode cJ7_bitCount 22 = .ok (.iadd, 1) := dk_96 (dk_at dksJ7_bitCount_0 22 rfl rfl)
theorem dJ7_bitCount_23 : decode cJ7_bitCount 23 = .ok (.istore_n 0, 1) := dk_59 (dk_at dksJ7_bitCount_0 23 rfl rfl)
theorem dJ7_bitCount_24 : decode cJ7_bitCount 24 = .ok (.iload_n 0, 1) := dk_26 (dk_at dksJ7_bitCount_1 0 rfl rfl)
theorem dJ7_bitCount_25 : decode cJ7_bitCount 25 = .ok (.iload_n 0, 1) := dk_26 (dk_at dksJ7_bitCount_1 1 rfl rfl)
theorem dJ7_bitCount_26 : decode cJ7_bitCount 26 = .ok (.iconst 4, 1) := dk_7 (dk_at dksJ7_bitCount_1 2 rfl rfl)
theorem dJ7_bitCount_27 : decode cJ7_bitCount 27 = .ok (.iushr, 1) := dk_124 (dk_at dksJ7_bitCount_1 3 rfl rfl)
theorem dJ7_bitCount_28 : decode cJ7_bitCount 28 = .ok (.iadd, 1) := dk_96 (dk_at dksJ7_bitCount_1 4 rfl rfl)
theorem dJ7_bitCount_29 : decode cJ7_bitCount 29 = .ok (.ldc_w 267, 3) := dk_19 1 11 (dk_at dksJ7_bitCount_1 5 rfl rfl)
theorem dJ7_bitCount_32 : decode cJ7_bitCount 32 = .ok (.iand, 1) := dk_126 (dk_at dksJ7_bitCount_1 8 rfl rfl)
theorem dJ7_bitCount_33 : decode cJ7_bitCount 33 = .ok (.istore_n 0, 1) := dk_59 (dk_at dksJ7_bitCount_1 9 rfl rfl)
theorem dJ7_bitCount_34 : decode cJ7_bitCount 34 = .ok (.iload_n 0, 1) := dk_26 (dk_at dksJ7_bitCount_1 10 rfl rfl)
theorem dJ7_bitCount_35 : decode cJ7_bitCount 35 = .ok (.iload_n 0, 1) := dk_26 (dk_at dksJ7_bitCount_1 11 rfl rfl)
theorem dJ7_bitCount_36 : decode cJ7_bitCount 36 = .ok (.bipush 8, 2) := dk_16 8 (dk_at dksJ7_bitCount_1 12 rfl rfl)
theorem dJ7_bitCount_38 : decode cJ7_bitCount 38 = .ok (.iushr, 1) := dk_124 (dk_at dksJ7_bitCount_1 14 rfl rfl)
theorem dJ7_bitCount_39 : decode cJ7_bitCount 39 = .ok (.iadd, 1) := dk_96 (dk_at dksJ7_bitCount_1 15 rfl rfl)
theorem dJ7_bitCount_40 : decode cJ7_bitCount 40 = .ok (.istore_n 0, 1) := dk_59 (dk_at dksJ7_bitCount_1 16 rfl rfl)
theorem dJ7_bitCount_41 : decode cJ7_bitCount 41 = .ok (.iload_n 0, 1) := dk_26 (dk_at dksJ7_bitCount_1 17 rfl rfl)
theorem dJ7_bitCount_42 : decode cJ7_bitCount 42 = .ok (.iload_n 0, 1) := dk_26 (dk_at dksJ7_bitCount_1 18 rfl rfl)
theorem dJ7_bitCount_43 : decode cJ7_bitCount 43 = .ok (.bipush 16, 2) := dk_16 16 (dk_at dksJ7_bitCount_1 19 rfl rfl)
theorem dJ7_bitCount_45 : decode cJ7_bitCount 45 = .ok (.iushr, 1) := dk_124 (dk_at dksJ7_bitCount_1 21 rfl rfl)
theorem dJ7_bitCount_46 : decode cJ7_bitCount 46 = .ok (.iadd, 1) := dk_96 (dk_at dksJ7_bitCount_1 22 rfl rfl)
theorem dJ7_bitCount_47 : decode cJ7_bitCount 47 = .ok (.istore_n 0, 1) := dk_59 (dk_at dksJ7_bitCount_1 23 rfl rfl)
theorem dJ7_bitCount_48 : decode cJ7_bitCount 48 = .ok (.iload_n 0, 1) := dk_26 (dk_at dksJ7_bitCount_2 0 rfl rfl)
theorem dJ7_bitCount_49 : decode cJ7_bitCount 49 = .ok (.bipush 63, 2) := dk_16 63 (dk_at dksJ7_bitCount_2 1 rfl rfl)
theorem dJ7_bitCount_51 : decode cJ7_bitCount 51 = .ok (.iand, 1) := dk_126 (dk_at dksJ7_bitCount_2 3 rfl rfl)
theorem dJ7_bitCount_52 : decode cJ7_bitCount 52 = .ok (.ireturn, 1) := dk_172 (dk_at dksJ7_bitCount_2 4 rfl rfl)
abbrev cJ7_numberOfTrailingZeros : ByteArray := prog_13_method_48_code
def yJ7_numberOfTrailingZeros : MethodName := ⟨RJ7, "numberOfTrailingZeros", "(I)I"⟩
def dkwJ7_numberOfTrailingZeros_3 : List UInt8 := [5, 124, 59, 27, 26, 4, 124, 96, 172]
abbrev dktJ7_numberOfTrailingZeros_3 : List UInt8 := dkwJ7_numberOfTrailingZeros_3 ++ []
def dkwJ7_numberOfTrailingZeros_2 : List UInt8 := [124, 59, 26, 16, 16, 164, 0, 10, 132, 1, 4, 26, 7, 124, 59, 26, 7, 164, 0, 10, 132, 1, 2, 26]
abbrev dktJ7_numberOfTrailingZeros_2 : List UInt8 := dkwJ7_numberOfTrailingZeros_2 ++ dktJ7_numberOfTrailingZeros_3
def dkwJ7_numberOfTrailingZeros_1 : List UInt8 := [164, 0, 11, 132, 1, 16, 26, 16, 16, 124, 59, 26, 17, 1, 0, 164, 0, 11, 132, 1, 8, 26, 16, 8]
abbrev dktJ7_numberOfTrailingZeros_1 : List UInt8 := dkwJ7_numberOfTrailingZeros_1 ++ dktJ7_numberOfTrailingZeros_2
def dkwJ7_numberOfTrailingZeros_0 : List UInt8 := [26, 2, 130, 26, 4, 100, 126, 59, 26, 157, 0, 8, 26, 16, 32, 126, 172, 4, 60, 26, 19, 1, 8]
abbrev dktJ7_numberOfTrailingZeros_0 : List UInt8 := dkwJ7_numberOfTrailingZeros_0 ++ dktJ7_numberOfTrailingZeros_1
theorem dksJ7_numberOfTrailingZeros_0 : cJ7_numberOfTrailingZeros.data.toList.drop 0 = dktJ7_numberOfTrailingZeros_0 := by decide +kernel
theorem dksJ7_numberOfTrailingZeros_1 : cJ7_numberOfTrailingZeros.data.toList.drop 23 = dktJ7_numberOfTrailingZeros_1 := dk_seg dksJ7_numberOfTrailingZeros_0 23 rfl rfl
theorem dksJ7_numberOfTrailingZeros_2 : cJ7_numberOfTrailingZeros.data.toList.drop 47 = dktJ7_numberOfTrailingZeros_2 := dk_seg dksJ7_numberOfTrailingZeros_1 24 rfl rfl
theorem dksJ7_numberOfTrailingZeros_3 : cJ7_numberOfTrailingZeros.data.toList.drop 71 = dktJ7_numberOfTrailingZeros_3 := dk_seg dksJ7_numberOfTrailingZeros_2 24 rfl rfl
theorem dJ7_numberOfTrailingZeros_0 : decode cJ7_numberOfTrailingZeros 0 = .ok (.iload_n 0, 1) := dk_26 (dk_at dksJ7_numberOfTrailingZeros_0 0 rfl rfl)
theorem dJ7_numberOfTrailingZeros_1 : decode cJ7_numberOfTrailingZeros 1 = .ok (.iconst (-1), 1) := dk_2 (dk_at dksJ7_numberOfTrailingZeros_0 1 rfl rfl)
theorem dJ7_numberOfTrailingZeros_2 : decode cJ7_numberOfTrailingZeros 2 = .ok (.ixor, 1) := dk_130 (dk_at dksJ7_numberOfTrailingZeros_0 2 rfl rfl)
theorem dJ7_numberOfTrailingZeros_3 : decode cJ7_numberOfTrailingZeros 3 = .ok (.iload_n 0, 1) := dk_26 (dk_at dksJ7_numberOfTrailingZeros_0 3 rfl rfl)
theorem dJ7_numberOfTrailingZeros_4 : decode cJ7_numberOfTrailingZeros 4 = .ok (.iconst 1, 1) := dk_4 (dk_at dksJ7_numberOfTrailingZeros_0 4 rfl rfl)
theorem dJ7_numberOfTrailingZeros_5 : decode cJ7_numberOfTrailingZeros 5 = .ok (.isub, 1) := dk_100 (dk_at dksJ7_numberOfTrailingZeros_0 5 rfl rfl)
theorem dJ7_numberOfTrailingZeros_6 : decode cJ7_numberOfTrailingZeros 6 = .ok (.iand, 1) := dk_126 (dk_at dksJ7_numberOfTrailingZeros_0 6 rfl rfl)
theorem dJ7_numberOfTrailingZeros_7 : decode cJ7_numberOfTrailingZeros 7 = .ok (.istore_n 0, 1) := dk_59 (dk_at dksJ7_numberOfTrailingZeros_0 7 rfl rfl)
theorem dJ7_numberOfTrailingZeros_8 : decode cJ7_numberOfTrailingZeros 8 = .ok (.iload_n 0, 1) := dk_26 (dk_at dksJ7_numberOfTrailingZeros_0 8 rfl rfl)
theorem dJ7_numberOfTrailingZeros_9 : decode cJ7_numberOfTrailingZeros 9 = .ok (.ifCond .gt 8, 3) := dk_157 0 8 (dk_at dksJ7_numberOfTrailingZeros_0 9 rfl rfl)
theorem dJ7_numberOfTrailingZeros_12 : decode cJ7_numberOfTrailingZeros 12 = .ok (.iload_n 0, 1) := dk_26 (dk_at dksJ7_numberOfTrailingZeros_0 12 rfl rfl)
theorem dJ7_numberOfTrailingZeros_13 : decode cJ7_numberOfTrailingZeros 13 = .ok (.bipush 32, 2) := dk_16 32 (dk_at dksJ7_numberOfTrailingZeros_0 13 rfl rfl)
theorem dJ7_numberOfTrailingZeros_15 : decode cJ7_numberOfTrailingZeros 15 = .ok (.iand, 1) := dk_126 (dk_at dksJ7_numberOfTrailingZeros_0 15 rfl rfl)
theorem dJ7_numberOfTrailingZeros_16 : decode cJ7_numberOfTrailingZeros 16 = .ok (.ireturn, 1) := dk_172 (dk_at dksJ7_numberOfTrailingZeros_0 16 rfl rfl)
theorem dJ7_numberOfTrailingZeros_17 : decode cJ7_numberOfTrailingZeros 17 = .ok (.iconst 1, 1) := dk_4 (dk_at dksJ7_numberOfTrailingZeros_0 17 rfl rfl)
theorem dJ7_numberOfTrailingZeros_18 : decode cJ7_numberOfTrailingZeros 18 = .ok (.istore_n 1, 1) := dk_60 (dk_at dksJ7_numberOfTrailingZeros_0 18 rfl rfl)
theorem dJ7_numberOfTrailingZeros_19 : decode cJ7_numberOfTrailingZeros 19 = .ok (.iload_n 0, 1) := dk_26 (dk_at dksJ7_numberOfTrailingZeros_0 19 rfl rfl)
theorem dJ7_numberOfTrailingZeros_20 : decode cJ7_numberOfTrailingZeros 20 = .ok (.ldc_w 264, 3) := dk_19 1 8 (dk_at dksJ7_numberOfTrailingZeros_0 20 rfl rfl)
theorem dJ7_numberOfTrailingZeros_23 : decode cJ7_numberOfTrailingZeros 23 = .ok (.if_icmp .le 11, 3) := dk_164 0 11 (dk_at dksJ7_numberOfTrailingZeros_1 0 rfl rfl)
theorem dJ7_numberOfTrailingZeros_26 : decode cJ7_numberOfTrailingZeros 26 = .ok (.iinc 1 16, 3) := dk_132 1 16 (dk_at dksJ7_numberOfTrailingZeros_1 3 rfl rfl)
theorem dJ7_numberOfTrailingZeros_29 : decode cJ7_numberOfTrailingZeros 29 = .ok (.iload_n 0, 1) := dk_26 (dk_at dksJ7_numberOfTrailingZeros_1 6 rfl rfl)
theorem dJ7_numberOfTrailingZeros_30 : decode cJ7_numberOfTrailingZeros 30 = .ok (.bipush 16, 2) := dk_16 16 (dk_at dksJ7_numberOfTrailingZeros_1 7 rfl rfl)
theorem dJ7_numberOfTrailingZeros_32 : decode cJ7_numberOfTrailingZeros 32 = .ok (.iushr, 1) := dk_124 (dk_at dksJ7_numberOfTrailingZeros_1 9 rfl rfl)
theorem dJ7_numberOfTrailingZeros_33 : decode cJ7_numberOfTrailingZeros 33 = .ok (.istore_n 0, 1) := dk_59 (dk_at dksJ7_numberOfTrailingZeros_1 10 rfl rfl)
theorem dJ7_numberOfTrailingZeros_34 : decode cJ7_numberOfTrailingZeros 34 = .ok (.iload_n 0, 1) := dk_26 (dk_at dksJ7_numberOfTrailingZeros_1 11 rfl rfl)
theorem dJ7_numberOfTrailingZeros_35 : decode cJ7_numberOfTrailingZeros 35 = .ok (.sipush 256, 3) := dk_17 1 0 (dk_at dksJ7_numberOfTrailingZeros_1 12 rfl rfl)
theorem dJ7_numberOfTrailingZeros_38 : decode cJ7_numberOfTrailingZeros 38 = .ok (.if_icmp .le 11, 3) := dk_164 0 11 (dk_at dksJ7_numberOfTrailingZeros_1 15 rfl rfl)
theorem dJ7_numberOfTrailingZeros_41 : decode cJ7_numberOfTrailingZeros 41 = .ok (.iinc 1 8, 3) := dk_132 1 8 (dk_at dksJ7_numberOfTrailingZeros_1 18 rfl rfl)
theorem dJ7_numberOfTrailingZeros_44 : decode cJ7_numberOfTrailingZeros 44 = .ok (.iload_n 0, 1) := dk_26 (dk_at dksJ7_numberOfTrailingZeros_1 21 rfl rfl)
theorem dJ7_numberOfTrailingZeros_45 : decode cJ7_numberOfTrailingZeros 45 = .ok (.bipush 8, 2) := dk_16 8 (dk_at dksJ7_numberOfTrailingZeros_1 22 rfl rfl)
theorem dJ7_numberOfTrailingZeros_47 : decode cJ7_numberOfTrailingZeros 47 = .ok (.iushr, 1) := dk_124 (dk_at dksJ7_numberOfTrailingZeros_2 0 rfl rfl)
theorem dJ7_numberOfTrailingZeros_48 : decode cJ7_numberOfTrailingZeros 48 = .ok (.istore_n 0, 1) := dk_59 (dk_at dksJ7_numberOfTrailingZeros_2 1 rfl rfl)
theorem dJ7_numberOfTrailingZeros_49 : decode cJ7_numberOfTrailingZeros 49 = .ok (.iload_n 0, 1) := dk_26 (dk_at dksJ7_numberOfTrailingZeros_2 2 rfl rfl)
theorem dJ7_numberOfTrailingZeros_50 : decode cJ7_numberOfTrailingZeros 50 = .ok (.bipush 16, 2) := dk_16 16 (dk_at dksJ7_numberOfTrailingZeros_2 3 rfl rfl)
theorem dJ7_numberOfTrailingZeros_52 : decode cJ7_numberOfTrailingZeros 52 = .ok (.if_icmp .le 10, 3) := dk_164 0 10 (dk_at dksJ7_numberOfTrailingZeros_2 5 rfl rfl)
theorem dJ7_numberOfTrailingZeros_55 : decode cJ7_numberOfTrailingZeros 55 = .ok (.iinc 1 4, 3) := dk_132 1 4 (dk_at dksJ7_numberOfTrailingZeros_2 8 rfl rfl)
theorem dJ7_numberOfTrailingZeros_58 : decode cJ7_numberOfTrailingZeros 58 = .ok (.iload_n 0, 1) := dk_26 (dk_at dksJ7_numberOfTrailingZeros_2 11 rfl rfl)
theorem dJ7_numberOfTrailingZeros_59 : decode cJ7_numberOfTrailingZeros 59 = .ok (.iconst 4, 1) := dk_7 (dk_at dksJ7_numberOfTrailingZeros_2 12 rfl rfl)
theorem dJ7_numberOfTrailingZeros_60 : decode cJ7_numberOfTrailingZeros 60 = .ok (.iushr, 1) := dk_124 (dk_at dksJ7_numberOfTrailingZeros_2 13 rfl rfl)
theorem dJ7_numberOfTrailingZeros_61 : decode cJ7_numberOfTrailingZeros 61 = .ok (.istore_n 0, 1) := dk_59 (dk_at dksJ7_numberOfTrailingZeros_2 14 rfl rfl)
theorem dJ7_numberOfTrailingZeros_62 : decode cJ7_numberOfTrailingZeros 62 = .ok (.iload_n 0, 1) := dk_26 (dk_at dksJ7_numberOfTrailingZeros_2 15 rfl rfl)
theorem dJ7_numberOfTrailingZeros_63 : decode cJ7_numberOfTrailingZeros 63 = .ok (.iconst 4, 1) := dk_7 (dk_at dksJ7_numberOfTrailingZeros_2 16 rfl rfl)
theorem dJ7_numberOfTrailingZeros_64 : decode cJ7_numberOfTrailingZeros 64 = .ok (.if_icmp .le 10, 3) := dk_164 0 10 (dk_at dksJ7_numberOfTrailingZeros_2 17 rfl rfl)
theorem dJ7_numberOfTrailingZeros_67 : decode cJ7_numberOfTrailingZeros 67 = .ok (.iinc 1 2, 3) := dk_132 1 2 (dk_at dksJ7_numberOfTrailingZeros_2 20 rfl rfl)
theorem dJ7_numberOfTrailingZeros_70 : decode cJ7_numberOfTrailingZeros 70 = .ok (.iload_n 0, 1) := dk_26 (dk_at dksJ7_numberOfTrailingZeros_2 23 rfl rfl)
theorem dJ7_numberOfTrailingZeros_71 : decode cJ7_numberOfTrailingZeros 71 = .ok (.iconst 2, 1) := dk_5 (dk_at dksJ7_numberOfTrailingZeros_3 0 rfl rfl)
theorem dJ7_numberOfTrailingZeros_72 : decode cJ7_numberOfTrailingZeros 72 = .ok (.iushr, 1) := dk_124 (dk_at dksJ7_numberOfTrailingZeros_3 1 rfl rfl)
theorem dJ7_numberOfTrailingZeros_73 : decode cJ7_numberOfTrailingZeros 73 = .ok (.istore_n 0, 1) := dk_59 (dk_at dksJ7_numberOfTrailingZeros_3 2 rfl rfl)
theorem dJ7_numberOfTrailingZeros_74 : decode cJ7_numberOfTrailingZeros 74 = .ok (.iload_n 1, 1) := dk_27 (dk_at dksJ7_numberOfTrailingZeros_3 3 rfl rfl)
theorem dJ7_numberOfTrailingZeros_75 : decode cJ7_numberOfTrailingZeros 75 = .ok (.iload_n 0, 1) := dk_26 (dk_at dksJ7_numberOfTrailingZeros_3 4 rfl rfl)
theorem dJ7_numberOfTrailingZeros_76 : decode cJ7_numberOfTrailingZeros 76 = .ok (.iconst 1, 1) := dk_4 (dk_at dksJ7_numberOfTrailingZeros_3 5 rfl rfl)
theorem dJ7_numberOfTrailingZeros_77 : decode cJ7_numberOfTrailingZeros 77 = .ok (.iushr, 1) := dk_124 (dk_at dksJ7_numberOfTrailingZeros_3 6 rfl rfl)
theorem dJ7_numberOfTrailingZeros_78 : decode cJ7_numberOfTrailingZeros 78 = .ok (.iadd, 1) := dk_96 (dk_at dksJ7_numberOfTrailingZeros_3 7 rfl rfl)
theorem dJ7_numberOfTrailingZeros_79 : decode cJ7_numberOfTrailingZeros 79 = .ok (.ireturn, 1) := dk_172 (dk_at dksJ7_numberOfTrailingZeros_3 8 rfl rfl)
abbrev cJ7_numberOfLeadingZeros : ByteArray := prog_13_method_47_code
def yJ7_numberOfLeadingZeros : MethodName := ⟨RJ7, "numberOfLeadingZeros", "(I)I"⟩
def dkwJ7_numberOfLeadingZeros_3 : List UInt8 := [5, 124, 59, 27, 26, 4, 124, 100, 172]
abbrev dktJ7_numberOfLeadingZeros_3 : List UInt8 := dkwJ7_numberOfLeadingZeros_3 ++ []
def dkwJ7_numberOfLeadingZeros_2 : List UInt8 := [124, 59, 26, 16, 16, 161, 0, 10, 132, 1, 252, 26, 7, 124, 59, 26, 7, 161, 0, 10, 132, 1, 254, 26]
abbrev dktJ7_numberOfLeadingZeros_2 : List UInt8 := dkwJ7_numberOfLeadingZeros_2 ++ dktJ7_numberOfLeadingZeros_3
def dkwJ7_numberOfLeadingZeros_1 : List UInt8 := [161, 0, 11, 132, 1, 240, 26, 16, 16, 124, 59, 26, 17, 1, 0, 161, 0, 11, 132, 1, 248, 26, 16, 8]
abbrev dktJ7_numberOfLeadingZeros_1 : List UInt8 := dkwJ7_numberOfLeadingZeros_1 ++ dktJ7_numberOfLeadingZeros_2
def dkwJ7_numberOfLeadingZeros_0 : List UInt8 := [26, 157, 0, 14, 26, 154, 0, 8, 16, 32, 167, 0, 4, 3, 172, 16, 31, 60, 26, 19, 1, 8]
abbrev dktJ7_numberOfLeadingZeros_0 : List UInt8 := dkwJ7_numberOfLeadingZeros_0 ++ dktJ7_numberOfLeadingZeros_1
theorem dksJ7_numberOfLeadingZeros_0 : cJ7_numberOfLeadingZeros.data.toList.drop 0 = dktJ7_numberOfLeadingZeros_0 := by decide +kernel
theorem dksJ7_numberOfLeadingZeros_1 : cJ7_numberOfLeadingZeros.data.toList.drop 22 = dktJ7_numberOfLeadingZeros_1 := dk_seg dksJ7_numberOfLeadingZeros_0 22 rfl rfl
theorem dksJ7_numberOfLeadingZeros_2 : cJ7_numberOfLeadingZeros.data.toList.drop 46 = dktJ7_numberOfLeadingZeros_2 := dk_seg dksJ7_numberOfLeadingZeros_1 24 rfl rfl
theorem dksJ7_numberOfLeadingZeros_3 : cJ7_numberOfLeadingZeros.data.toList.drop 70 = dktJ7_numberOfLeadingZeros_3 := dk_seg dksJ7_numberOfLeadingZeros_2 24 rfl rfl
theorem dJ7_numberOfLeadingZeros_0 : decode cJ7_numberOfLeadingZeros 0 = .ok (.iload_n 0, 1) := dk_26 (dk_at dksJ7_numberOfLeadingZeros_0 0 rfl rfl)
theorem dJ7_numberOfLeadingZeros_1 : decode cJ7_numberOfLeadingZeros 1 = .ok (.ifCond .gt 14, 3) := dk_157 0 14 (dk_at dksJ7_numberOfLeadingZeros_0 1 rfl rfl)
theorem dJ7_numberOfLeadingZeros_4 : decode cJ7_numberOfLeadingZeros 4 = .ok (.iload_n 0, 1) := dk_26 (dk_at dksJ7_numberOfLeadingZeros_0 4 rfl rfl)
theorem dJ7_numberOfLeadingZeros_5 : decode cJ7_numberOfLeadingZeros 5 = .ok (.ifCond .ne 8, 3) := dk_154 0 8 (dk_at dksJ7_numberOfLeadingZeros_0 5 rfl rfl)
theorem dJ7_numberOfLeadingZeros_8 : decode cJ7_numberOfLeadingZeros 8 = .ok (.bipush 32, 2) := dk_16 32 (dk_at dksJ7_numberOfLeadingZeros_0 8 rfl rfl)
theorem dJ7_numberOfLeadingZeros_10 : decode cJ7_numberOfLeadingZeros 10 = .ok (.goto 4, 3) := dk_167 0 4 (dk_at dksJ7_numberOfLeadingZeros_0 10 rfl rfl)
theorem dJ7_numberOfLeadingZeros_13 : decode cJ7_numberOfLeadingZeros 13 = .ok (.iconst 0, 1) := dk_3 (dk_at dksJ7_numberOfLeadingZeros_0 13 rfl rfl)
theorem dJ7_numberOfLeadingZeros_14 : decode cJ7_numberOfLeadingZeros 14 = .ok (.ireturn, 1) := dk_172 (dk_at dksJ7_numberOfLeadingZeros_0 14 rfl rfl)
theorem dJ7_numberOfLeadingZeros_15 : decode cJ7_numberOfLeadingZeros 15 = .ok (.bipush 31, 2) := dk_16 31 (dk_at dksJ7_numberOfLeadingZeros_0 15 rfl rfl)
theorem dJ7_numberOfLeadingZeros_17 : decode cJ7_numberOfLeadingZeros 17 = .ok (.istore_n 1, 1) := dk_60 (dk_at dksJ7_numberOfLeadingZeros_0 17 rfl rfl)
theorem dJ7_numberOfLeadingZeros_18 : decode cJ7_numberOfLeadingZeros 18 = .ok (.iload_n 0, 1) := dk_26 (dk_at dksJ7_numberOfLeadingZeros_0 18 rfl rfl)
theorem dJ7_numberOfLeadingZeros_19 : decode cJ7_numberOfLeadingZeros 19 = .ok (.ldc_w 264, 3) := dk_19 1 8 (dk_at dksJ7_numberOfLeadingZeros_0 19 rfl rfl)
theorem dJ7_numberOfLeadingZeros_22 : decode cJ7_numberOfLeadingZeros 22 = .ok (.if_icmp .lt 11, 3) := dk_161 0 11 (dk_at dksJ7_numberOfLeadingZeros_1 0 rfl rfl)
theorem dJ7_numberOfLeadingZeros_25 : decode cJ7_numberOfLeadingZeros 25 = .ok (.iinc 1 (-16), 3) := dk_132 1 240 (dk_at dksJ7_numberOfLeadingZeros_1 3 rfl rfl)
theorem dJ7_numberOfLeadingZeros_28 : decode cJ7_numberOfLeadingZeros 28 = .ok (.iload_n 0, 1) := dk_26 (dk_at dksJ7_numberOfLeadingZeros_1 6 rfl rfl)
theorem dJ7_numberOfLeadingZeros_29 : decode cJ7_numberOfLeadingZeros 29 = .ok (.bipush 16, 2) := dk_16 16 (dk_at dksJ7_numberOfLeadingZeros_1 7 rfl rfl)
theorem dJ7_numberOfLeadingZeros_31 : decode cJ7_numberOfLeadingZeros 31 = .ok (.iushr, 1) := dk_124 (dk_at dksJ7_numberOfLeadingZeros_1 9 rfl rfl)
theorem dJ7_numberOfLeadingZeros_32 : decode cJ7_numberOfLeadingZeros 32 = .ok (.istore_n 0, 1) := dk_59 (dk_at dksJ7_numberOfLeadingZeros_1 10 rfl rfl)
theorem dJ7_numberOfLeadingZeros_33 : decode cJ7_numberOfLeadingZeros 33 = .ok (.iload_n 0, 1) := dk_26 (dk_at dksJ7_numberOfLeadingZeros_1 11 rfl rfl)
theorem dJ7_numberOfLeadingZeros_34 : decode cJ7_numberOfLeadingZeros 34 = .ok (.sipush 256, 3) := dk_17 1 0 (dk_at dksJ7_numberOfLeadingZeros_1 12 rfl rfl)
theorem dJ7_numberOfLeadingZeros_37 : decode cJ7_numberOfLeadingZeros 37 = .ok (.if_icmp .lt 11, 3) := dk_161 0 11 (dk_at dksJ7_numberOfLeadingZeros_1 15 rfl rfl)
theorem dJ7_numberOfLeadingZeros_40 : decode cJ7_numberOfLeadingZeros 40 = .ok (.iinc 1 (-8), 3) := dk_132 1 248 (dk_at dksJ7_numberOfLeadingZeros_1 18 rfl rfl)
theorem dJ7_numberOfLeadingZeros_43 : decode cJ7_numberOfLeadingZeros 43 = .ok (.iload_n 0, 1) := dk_26 (dk_at dksJ7_numberOfLeadingZeros_1 21 rfl rfl)
theorem dJ7_numberOfLeadingZeros_44 : decode cJ7_numberOfLeadingZeros 44 = .ok (.bipush 8, 2) := dk_16 8 (dk_at dksJ7_numberOfLeadingZeros_1 22 rfl rfl)
theorem dJ7_numberOfLeadingZeros_46 : decode cJ7_numberOfLeadingZeros 46 = .ok (.iushr, 1) := dk_124 (dk_at dksJ7_numberOfLeadingZeros_2 0 rfl rfl)
theorem dJ7_numberOfLeadingZeros_47 : decode cJ7_numberOfLeadingZeros 47 = .ok (.istore_n 0, 1) := dk_59 (dk_at dksJ7_numberOfLeadingZeros_2 1 rfl rfl)
theorem dJ7_numberOfLeadingZeros_48 : decode cJ7_numberOfLeadingZeros 48 = .ok (.iload_n 0, 1) := dk_26 (dk_at dksJ7_numberOfLeadingZeros_2 2 rfl rfl)
theorem dJ7_numberOfLeadingZeros_49 : decode cJ7_numberOfLeadingZeros 49 = .ok (.bipush 16, 2) := dk_16 16 (dk_at dksJ7_numberOfLeadingZeros_2 3 rfl rfl)
theorem dJ7_numberOfLeadingZeros_51 : decode cJ7_numberOfLeadingZeros 51 = .ok (.if_icmp .lt 10, 3) := dk_161 0 10 (dk_at dksJ7_numberOfLeadingZeros_2 5 rfl rfl)
theorem dJ7_numberOfLeadingZeros_54 : decode cJ7_numberOfLeadingZeros 54 = .ok (.iinc 1 (-4), 3) := dk_132 1 252 (dk_at dksJ7_numberOfLeadingZeros_2 8 rfl rfl)
theorem dJ7_numberOfLeadingZeros_57 : decode cJ7_numberOfLeadingZeros 57 = .ok (.iload_n 0, 1) := dk_26 (dk_at dksJ7_numberOfLeadingZeros_2 11 rfl rfl)
theorem dJ7_numberOfLeadingZeros_58 : decode cJ7_numberOfLeadingZeros 58 = .ok (.iconst 4, 1) := dk_7 (dk_at dksJ7_numberOfLeadingZeros_2 12 rfl rfl)
theorem dJ7_numberOfLeadingZeros_59 : decode cJ7_numberOfLeadingZeros 59 = .ok (.iushr, 1) := dk_124 (dk_at dksJ7_numberOfLeadingZeros_2 13 rfl rfl)
theorem dJ7_numberOfLeadingZeros_60 : decode cJ7_numberOfLeadingZeros 60 = .ok (.istore_n 0, 1) := dk_59 (dk_at dksJ7_numberOfLeadingZeros_2 14 rfl rfl)
theorem dJ7_numberOfLeadingZeros_61 : decode cJ7_numberOfLeadingZeros 61 = .ok (.iload_n 0, 1) := dk_26 (dk_at dksJ7_numberOfLeadingZeros_2 15 rfl rfl)
theorem dJ7_numberOfLeadingZeros_62 : decode cJ7_numberOfLeadingZeros 62 = .ok (.iconst 4, 1) := dk_7 (dk_at dksJ7_numberOfLeadingZeros_2 16 rfl rfl)
theorem dJ7_numberOfLeadingZeros_63 : decode cJ7_numberOfLeadingZeros 63 = .ok (.if_icmp .lt 10, 3) := dk_161 0 10 (dk_at dksJ7_numberOfLeadingZeros_2 17 rfl rfl)
theorem dJ7_numberOfLeadingZeros_66 : decode cJ7_numberOfLeadingZeros 66 = .ok (.iinc 1 (-2), 3) := dk_132 1 254 (dk_at dksJ7_numberOfLeadingZeros_2 20 rfl rfl)
theorem dJ7_numberOfLeadingZeros_69 : decode cJ7_numberOfLeadingZeros 69 = .ok (.iload_n 0, 1) := dk_26 (dk_at dksJ7_numberOfLeadingZeros_2 23 rfl rfl)
theorem dJ7_numberOfLeadingZeros_70 : decode cJ7_numberOfLeadingZeros 70 = .ok (.iconst 2, 1) := dk_5 (dk_at dksJ7_numberOfLeadingZeros_3 0 rfl rfl)
theorem dJ7_numberOfLeadingZeros_71 : decode cJ7_numberOfLeadingZeros 71 = .ok (.iushr, 1) := dk_124 (dk_at dksJ7_numberOfLeadingZeros_3 1 rfl rfl)
theorem dJ7_numberOfLeadingZeros_72 : decode cJ7_numberOfLeadingZeros 72 = .ok (.istore_n 0, 1) := dk_59 (dk_at dksJ7_numberOfLeadingZeros_3 2 rfl rfl)
theorem dJ7_numberOfLeadingZeros_73 : decode cJ7_numberOfLeadingZeros 73 = .ok (.iload_n 1, 1) := dk_27 (dk_at dksJ7_numberOfLeadingZeros_3 3 rfl rfl)
theorem dJ7_numberOfLeadingZeros_74 : decode cJ7_numberOfLeadingZeros 74 = .ok (.iload_n 0, 1) := dk_26 (dk_at dksJ7_numberOfLeadingZeros_3 4 rfl rfl)
theorem dJ7_numberOfLeadingZeros_75 : decode cJ7_numberOfLeadingZeros 75 = .ok (.iconst 1, 1) := dk_4 (dk_at dksJ7_numberOfLeadingZeros_3 5 rfl rfl)
theorem dJ7_numberOfLeadingZeros_76 : decode cJ7_numberOfLeadingZeros 76 = .ok (.iushr, 1) := dk_124 (dk_at dksJ7_numberOfLeadingZeros_3 6 rfl rfl)
theorem dJ7_numberOfLeadingZeros_77 : decode cJ7_numberOfLeadingZeros 77 = .ok (.isub, 1) := dk_100 (dk_at dksJ7_numberOfLeadingZeros_3 7 rfl rfl)
theorem dJ7_numberOfLeadingZeros_78 : decode cJ7_numberOfLeadingZeros 78 = .ok (.ireturn, 1) := dk_172 (dk_at dksJ7_numberOfLeadingZeros_3 8 rfl rfl)
theorem q85 : (Jvm.Cond.initialized "java/lang/Integer") ∈ lw_all := lw_g (lw_at lw_m1 16 rfl) rfl
theorem q401 : (Jvm.Cond.static ({ cls := "java/lang/Integer", name := "bitCount", desc := "(I)I" } : Jvm.MethodName)) ∈ lw_all := lw_g (lw_at lw_m2 92 rfl) rfl
theorem q402 : (Jvm.Cond.code ({ cls := "java/lang/Integer", name := "bitCount", desc := "(I)I" } : Jvm.MethodName) prog_13_method_49_code (1 : Nat) (Option.some Jvm.ClassFile.FieldType.int)) ∈ lw_all := lw_g (lw_at lw_m2 93 rfl) rfl
theorem q403 : (Jvm.Cond.constant "java/lang/Integer" (265 : Nat) (1431655765 : Int32)) ∈ lw_all := lw_g (lw_at lw_m2 94 rfl) rfl
theorem q404 : (Jvm.Cond.constant "java/lang/Integer" (266 : Nat) (858993459 : Int32)) ∈ lw_all := lw_g (lw_at lw_m2 95 rfl) rfl
theorem q405 : (Jvm.Cond.constant "java/lang/Integer" (267 : Nat) (252645135 : Int32)) ∈ lw_all := lw_g (lw_at lw_m2 96 rfl) rfl
theorem q415 : (Jvm.Cond.static ({ cls := "java/lang/Integer", name := "numberOfTrailingZeros", desc := "(I)I" } : Jvm.MethodName)) ∈ lw_all := lw_g (lw_at lw_m2 106 rfl) rfl
theorem q416 : (Jvm.Cond.code ({ cls := "java/lang/Integer", name := "numberOfTrailingZeros", desc := "(I)I" } : Jvm.MethodName) prog_13_method_48_code (2 : Nat) (Option.some Jvm.ClassFile.FieldType.int)) ∈ lw_all := lw_g (lw_at lw_m2 107 rfl) rfl
theorem q417 : (Jvm.Cond.constant "java/lang/Integer" (264 : Nat) (65536 : Int32)) ∈ lw_all := lw_g (lw_at lw_m2 108 rfl) rfl
theorem q644 : (Jvm.Cond.static ({ cls := "java/lang/Integer", name := "numberOfLeadingZeros", desc := "(I)I" } : Jvm.MethodName)) ∈ lw_all := lw_g (lw_at lw_m3 95 rfl) rfl
theorem q645 : (Jvm.Cond.code ({ cls := "java/lang/Integer", name := "numberOfLeadingZeros", desc := "(I)I" } : Jvm.MethodName) prog_13_method_47_code (2 : Nat) (Option.some Jvm.ClassFile.FieldType.int)) ∈ lw_all := lw_g (lw_at lw_m3 96 rfl) rfl

/-! java/lang/Math -/
set_option maxRecDepth 100000
def RJ8 : String := "java/lang/Math"
abbrev cJ8_max : ByteArray := prog_14_method_65_code
def yJ8_max : MethodName := ⟨RJ8, "max", "(II)I"⟩
def dkwJ8_max_0 : List UInt8 := [26, 27, 161, 0, 7, 26, 167, 0, 4, 27, 172]
abbrev dktJ8_max_0 : List UInt8 := dkwJ8_max_0 ++ []
theorem dksJ8_max_0 : cJ8_max.data.toList.drop 0 = dktJ8_max_0 := by decide +kernel
theorem dJ8_max_0 : decode cJ8_max 0 = .ok (.iload_n 0, 1) := dk_26 (dk_at dksJ8_max_0 0 rfl rfl)
theorem dJ8_max_1 : decode cJ8_max 1 = .ok (.iload_n 1, 1) := dk_27 (dk_at dksJ8_max_0 1 rfl rfl)
theorem dJ8_max_2 : decode cJ8_max 2 = .ok (.if_icmp .lt 7, 3) := dk_161 0 7 (dk_at dksJ8_max_0 2 rfl rfl)
theorem dJ8_max_5 : decode cJ8_max 5 = .ok (.iload_n 0, 1) := dk_26 (dk_at dksJ8_max_0 5 rfl rfl)
theorem dJ8_max_6 : decode cJ8_max 6 = .ok (.goto 4, 3) := dk_167 0 4 (dk_at dksJ8_max_0 6 rfl rfl)
theorem dJ8_max_9 : decode cJ8_max 9 = .ok (.iload_n 1, 1) := dk_27 (dk_at dksJ8_max_0 9 rfl rfl)
theorem dJ8_max_10 : decode cJ8_max 10 = .ok (.ireturn, 1) := dk_172 (dk_at dksJ8_max_0 10 rfl rfl)
abbrev cJ8_addExact : ByteArray := prog_14_method_24_code
def yJ8_addExact : MethodName := ⟨RJ8, "addExact", "(II)I"⟩
def dkwJ8_addExact_1 : List UInt8 := [28, 172]
abbrev dktJ8_addExact_1 : List UInt8 := dkwJ8_addExact_1 ++ []
def dkwJ8_addExact_0 : List UInt8 := [26, 27, 96, 61, 26, 28, 130, 27, 28, 130, 126, 156, 0, 13, 187, 0, 109, 89, 18, 111, 183, 0, 113, 191]
abbrev dktJ8_addExact_0 : List UInt8 := dkwJ8_addExact_0 ++ dktJ8_addExact_1
theorem dksJ8_addExact_0 : cJ8_addExact.data.toList.drop 0 = dktJ8_addExact_0 := by decide +kernel
theorem dksJ8_addExact_1 : cJ8_addExact.data.toList.drop 24 = dktJ8_addExact_1 := dk_seg dksJ8_addExact_0 24 rfl rfl
theorem dJ8_addExact_0 : decode cJ8_addExact 0 = .ok (.iload_n 0, 1) := dk_26 (dk_at dksJ8_addExact_0 0 rfl rfl)
theorem dJ8_addExact_1 : decode cJ8_addExact 1 = .ok (.iload_n 1, 1) := dk_27 (dk_at dksJ8_addExact_0 1 rfl rfl)
theorem dJ8_addExact_2 : decode cJ8_addExact 2 = .ok (.iadd, 1) := dk_96 (dk_at dksJ8_addExact_0 2 rfl rfl)
theorem dJ8_addExact_3 : decode cJ8_addExact 3 = .ok (.istore_n 2, 1) := dk_61 (dk_at dksJ8_addExact_0 3 rfl rfl)
theorem dJ8_addExact_4 : decode cJ8_addExact 4 = .ok (.iload_n 0, 1) := dk_26 (dk_at dksJ8_addExact_0 4 rfl rfl)
theorem dJ8_addExact_5 : decode cJ8_addExact 5 = .ok (.iload_n 2, 1) := dk_28 (dk_at dksJ8_addExact_0 5 rfl rfl)
theorem dJ8_addExact_6 : decode cJ8_addExact 6 = .ok (.ixor, 1) := dk_130 (dk_at dksJ8_addExact_0 6 rfl rfl)
theorem dJ8_addExact_7 : decode cJ8_addExact 7 = .ok (.iload_n 1, 1) := dk_27 (dk_at dksJ8_addExact_0 7 rfl rfl)
theorem dJ8_addExact_8 : decode cJ8_addExact 8 = .ok (.iload_n 2, 1) := dk_28 (dk_at dksJ8_addExact_0 8 rfl rfl)
theorem dJ8_addExact_9 : decode cJ8_addExact 9 = .ok (.ixor, 1) := dk_130 (dk_at dksJ8_addExact_0 9 rfl rfl)
theorem dJ8_addExact_10 : decode cJ8_addExact 10 = .ok (.iand, 1) := dk_126 (dk_at dksJ8_addExact_0 10 rfl rfl)
theorem dJ8_addExact_11 : decode cJ8_addExact 11 = .ok (.ifCond .ge 13, 3) := dk_156 0 13 (dk_at dksJ8_addExact_0 11 rfl rfl)
theorem dJ8_addExact_14 : decode cJ8_addExact 14 = .ok (.new 109, 3) := dk_187 0 109 (dk_at dksJ8_addExact_0 14 rfl rfl)
theorem dJ8_addExact_17 : decode cJ8_addExact 17 = .ok (.dup, 1) := dk_89 (dk_at dksJ8_addExact_0 17 rfl rfl)
theorem dJ8_addExact_18 : decode cJ8_addExact 18 = .ok (.ldc 111, 2) := dk_18 111 (dk_at dksJ8_addExact_0 18 rfl rfl)
theorem dJ8_addExact_20 : decode cJ8_addExact 20 = .ok (.invokespecial 113, 3) := dk_183 0 113 (dk_at dksJ8_addExact_0 20 rfl rfl)
theorem dJ8_addExact_23 : decode cJ8_addExact 23 = .ok (.athrow, 1) := dk_191 (dk_at dksJ8_addExact_0 23 rfl rfl)
theorem dJ8_addExact_24 : decode cJ8_addExact 24 = .ok (.iload_n 2, 1) := dk_28 (dk_at dksJ8_addExact_1 0 rfl rfl)
theorem dJ8_addExact_25 : decode cJ8_addExact 25 = .ok (.ireturn, 1) := dk_172 (dk_at dksJ8_addExact_1 1 rfl rfl)
abbrev cJ8_min : ByteArray := prog_14_method_69_code
def yJ8_min : MethodName := ⟨RJ8, "min", "(II)I"⟩
def dkwJ8_min_0 : List UInt8 := [26, 27, 163, 0, 7, 26, 167, 0, 4, 27, 172]
abbrev dktJ8_min_0 : List UInt8 := dkwJ8_min_0 ++ []
theorem dksJ8_min_0 : cJ8_min.data.toList.drop 0 = dktJ8_min_0 := by decide +kernel
theorem dJ8_min_0 : decode cJ8_min 0 = .ok (.iload_n 0, 1) := dk_26 (dk_at dksJ8_min_0 0 rfl rfl)
theorem dJ8_min_1 : decode cJ8_min 1 = .ok (.iload_n 1, 1) := dk_27 (dk_at dksJ8_min_0 1 rfl rfl)
theorem dJ8_min_2 : decode cJ8_min 2 = .ok (.if_icmp .gt 7, 3) := dk_163 0 7 (dk_at dksJ8_min_0 2 rfl rfl)
theorem dJ8_min_5 : decode cJ8_min 5 = .ok (.iload_n 0, 1) := dk_26 (dk_at dksJ8_min_0 5 rfl rfl)
theorem dJ8_min_6 : decode cJ8_min 6 = .ok (.goto 4, 3) := dk_167 0 4 (dk_at dksJ8_min_0 6 rfl rfl)
theorem dJ8_min_9 : decode cJ8_min 9 = .ok (.iload_n 1, 1) := dk_27 (dk_at dksJ8_min_0 9 rfl rfl)
theorem dJ8_min_10 : decode cJ8_min 10 = .ok (.ireturn, 1) := dk_172 (dk_at dksJ8_min_0 10 rfl rfl)
theorem q86 : (Jvm.Cond.initialized "java/lang/Math") ∈ lw_all := lw_g (lw_at lw_m1 17 rfl) rfl
theorem q468 : (Jvm.Cond.static ({ cls := "java/lang/Math", name := "max", desc := "(II)I" } : Jvm.MethodName)) ∈ lw_all := lw_g (lw_at lw_m2 159 rfl) rfl
theorem q469 : (Jvm.Cond.code ({ cls := "java/lang/Math", name := "max", desc := "(II)I" } : Jvm.MethodName) prog_14_method_65_code (2 : Nat) (Option.some Jvm.ClassFile.FieldType.int)) ∈ lw_all := lw_g (lw_at lw_m2 160 rfl) rfl
theorem q478 : (Jvm.Cond.static ({ cls := "java/lang/Math", name := "addExact", desc := "(II)I" } : Jvm.MethodName)) ∈ lw_all := lw_g (lw_at lw_m2 169 rfl) rfl
theorem q479 : (Jvm.Cond.code ({ cls := "java/lang/Math", name := "addExact", desc := "(II)I" } : Jvm.MethodName) prog_14_method_24_code (3 : Nat) (Option.some Jvm.ClassFile.FieldType.int)) ∈ lw_all := lw_g (lw_at lw_m2 170 rfl) rfl
theorem q767 : (Jvm.Cond.static ({ cls := "java/lang/Math", name := "min", desc := "(II)I" } : Jvm.MethodName)) ∈ lw_all := lw_g (lw_at lw_m3 218 rfl) rfl
theorem q768 : (Jvm.Cond.code ({ cls := "java/lang/Math", name := "min", desc := "(II)I" } : Jvm.MethodName) prog_14_method_69_code (2 : Nat) (Option.some Jvm.ClassFile.FieldType.int)) ∈ lw_all := lw_g (lw_at lw_m3 219 rfl) rfl

/-! java/lang/NullPointerException -/
set_option maxRecDepth 100000
def RJ9 : String := "java/lang/NullPointerException"
def TJ9 : u_T := fun k => match k with
  | 0 => ("java/lang/Throwable", "backtrace", "Ljava/lang/Object;", false)
  | 1 => ("java/lang/Throwable", "detailMessage", "Ljava/lang/String;", false)
  | 2 => ("java/lang/Throwable", "cause", "Ljava/lang/Throwable;", false)
  | 3 => ("java/lang/Throwable", "stackTrace", "[Ljava/lang/StackTraceElement;", false)
  | 4 => ("java/lang/Throwable", "depth", "I", false)
  | 5 => ("java/lang/Throwable", "suppressedExceptions", "Ljava/util/List;", false)
  | 6 => ("java/lang/NullPointerException", "extendedMessageState", "I", false)
  | _ => ("java/lang/NullPointerException", "extendedMessage", "Ljava/lang/String;", false)
def tyJ9 : Nat → FieldType := fun k => match k with
  | 0 => .object "java/lang/Object"
  | 1 => .object "java/lang/String"
  | 2 => .object "java/lang/Throwable"
  | 3 => .array (.object "java/lang/StackTraceElement")
  | 4 => .int
  | 5 => .object "java/util/List"
  | 6 => .int
  | _ => .object "java/lang/String"
abbrev wsJ90 : List Cond := u_ws RJ9 TJ9 8
theorem nmJ9 : ∀ a, a < 8 → ∀ b, b < 8 → a ≠ b → (TJ9 a).2.1 ≠ (TJ9 b).2.1 := by decide +kernel
theorem tyJ9_ok : ∀ k, k < 8 → parseFieldDescriptor (TJ9 k).2.2.1 = some (tyJ9 k) := by decide +kernel
abbrev cJ9_init : ByteArray := prog_15_method_1_code
def yJ9_init : MethodName := ⟨RJ9, "<init>", "()V"⟩
theorem dJ9_init_0 : decode cJ9_init 0 = .ok (.aload_n 0, 1) := by decide +kernel
theorem dJ9_init_1 : decode cJ9_init 1 = .ok (.invokespecial 1, 3) := by decide +kernel
theorem dJ9_init_4 : decode cJ9_init 4 = .ok (.return_, 1) := by decide +kernel
theorem q89 : (Jvm.Cond.initialized "java/lang/NullPointerException") ∈ lw_all := lw_g (lw_at lw_m1 20 rfl) rfl
theorem q339 : (Jvm.Cond.selects "java/lang/NullPointerException" ({ cls := "java/lang/Throwable", name := "fillInStackTrace", desc := "()Ljava/lang/Throwable;" } : Jvm.MethodName) ({ cls := "java/lang/NullPointerException", name := "fillInStackTrace", desc := "()Ljava/lang/Throwable;" } : Jvm.MethodName)) ∈ lw_all := lw_g (lw_at lw_m2 30 rfl) rfl
theorem q340 : (Jvm.Cond.instanceMethod ({ cls := "java/lang/NullPointerException", name := "fillInStackTrace", desc := "()Ljava/lang/Throwable;" } : Jvm.MethodName)) ∈ lw_all := lw_g (lw_at lw_m2 31 rfl) rfl
theorem q341 : (Jvm.Cond.codeSync ({ cls := "java/lang/NullPointerException", name := "fillInStackTrace", desc := "()Ljava/lang/Throwable;" } : Jvm.MethodName) prog_15_method_3_code (1 : Nat) (Option.some (Jvm.ClassFile.FieldType.object "java/lang/Throwable"))) ∈ lw_all := lw_g (lw_at lw_m2 32 rfl) rfl
theorem q342 : (Jvm.Cond.methodLink "java/lang/NullPointerException" (16 : Nat) ({ cls := "java/lang/NullPointerException", name := "getExtendedNPEMessage", desc := "()Ljava/lang/String;" } : Jvm.MethodName)) ∈ lw_all := lw_g (lw_at lw_m2 33 rfl) rfl
theorem q343 : (Jvm.Cond.privateMethod ({ cls := "java/lang/NullPointerException", name := "getExtendedNPEMessage", desc := "()Ljava/lang/String;" } : Jvm.MethodName)) ∈ lw_tbl := lw_at lw_m2 34 rfl
theorem q344 : (Jvm.Cond.instanceMethod ({ cls := "java/lang/NullPointerException", name := "getExtendedNPEMessage", desc := "()Ljava/lang/String;" } : Jvm.MethodName)) ∈ lw_all := lw_g (lw_at lw_m2 35 rfl) rfl
theorem q345 : (Jvm.Cond.instantiable "java/lang/NullPointerException" (8 : Nat)) ∈ lw_all := lw_g (lw_at lw_m2 36 rfl) rfl
theorem q346 : (Jvm.Cond.native ({ cls := "java/lang/NullPointerException", name := "getExtendedNPEMessage", desc := "()Ljava/lang/String;" } : Jvm.MethodName)) ∈ lw_all := lw_g (lw_at lw_m2 37 rfl) rfl
theorem q347 : (Jvm.Cond.methodLink "java/lang/NullPointerException" (24 : Nat) ({ cls := "java/lang/RuntimeException", name := "fillInStackTrace", desc := "()Ljava/lang/Throwable;" } : Jvm.MethodName)) ∈ lw_all := lw_g (lw_at lw_m2 38 rfl) rfl
theorem q350 : (Jvm.Cond.superclass "java/lang/NullPointerException" "java/lang/RuntimeException") ∈ lw_all := lw_g (lw_at lw_m2 41 rfl) rfl
theorem q617 : (Jvm.Cond.instanceMethod ({ cls := "java/lang/NullPointerException", name := "<init>", desc := "()V" } : Jvm.MethodName)) ∈ lw_all := lw_g (lw_at lw_m3 68 rfl) rfl
theorem q618 : (Jvm.Cond.code ({ cls := "java/lang/NullPointerException", name := "<init>", desc := "()V" } : Jvm.MethodName) prog_15_method_1_code (1 : Nat) (Option.none : Option Jvm.ClassFile.FieldType)) ∈ lw_all := lw_g (lw_at lw_m3 69 rfl) rfl
theorem q619 : (Jvm.Cond.methodLink "java/lang/NullPointerException" (1 : Nat) ({ cls := "java/lang/RuntimeException", name := "<init>", desc := "()V" } : Jvm.MethodName)) ∈ lw_all := lw_g (lw_at lw_m3 70 rfl) rfl
theorem q626 : (Jvm.Cond.fieldLink "java/lang/NullPointerException" (10 : Nat) "java/lang/NullPointerException" "extendedMessageState" "I") ∈ lw_all := lw_g (lw_at lw_m3 77 rfl) rfl
theorem q627 : (Jvm.Cond.fieldLink "java/lang/NullPointerException" (20 : Nat) "java/lang/NullPointerException" "extendedMessage" "Ljava/lang/String;") ∈ lw_all := lw_g (lw_at lw_m3 78 rfl) rfl
theorem q628 : (Jvm.Cond.lays "java/lang/NullPointerException" "java/lang/NullPointerException" "extendedMessageState" "I") ∈ lw_all := lw_g (lw_at lw_m3 79 rfl) rfl
theorem q629 : (Jvm.Cond.soleField "java/lang/NullPointerException" "extendedMessageState") ∈ lw_all := lw_g (lw_at lw_m3 80 rfl) rfl
theorem q630 : (Jvm.Cond.lays "java/lang/NullPointerException" "java/lang/NullPointerException" "extendedMessage" "Ljava/lang/String;") ∈ lw_all := lw_g (lw_at lw_m3 81 rfl) rfl
theorem q631 : (Jvm.Cond.soleField "java/lang/NullPointerException" "extendedMessage") ∈ lw_all := lw_g (lw_at lw_m3 82 rfl) rfl
theorem q632 : (Jvm.Cond.lays "java/lang/NullPointerException" "java/lang/Throwable" "backtrace" "Ljava/lang/Object;") ∈ lw_all := lw_g (lw_at lw_m3 83 rfl) rfl
theorem q633 : (Jvm.Cond.lays "java/lang/NullPointerException" "java/lang/Throwable" "detailMessage" "Ljava/lang/String;") ∈ lw_all := lw_g (lw_at lw_m3 84 rfl) rfl
theorem q634 : (Jvm.Cond.lays "java/lang/NullPointerException" "java/lang/Throwable" "cause" "Ljava/lang/Throwable;") ∈ lw_all := lw_g (lw_at lw_m3 85 rfl) rfl
theorem q635 : (Jvm.Cond.lays "java/lang/NullPointerException" "java/lang/Throwable" "stackTrace" "[Ljava/lang/StackTraceElement;") ∈ lw_all := lw_g (lw_at lw_m3 86 rfl) rfl
theorem q636 : (Jvm.Cond.lays "java/lang/NullPointerException" "java/lang/Throwable" "depth" "I") ∈ lw_all := lw_g (lw_at lw_m3 87 rfl) rfl
theorem q637 : (Jvm.Cond.lays "java/lang/NullPointerException" "java/lang/Throwable" "suppressedExceptions" "Ljava/util/List;") ∈ lw_all := lw_g (lw_at lw_m3 88 rfl) rfl
theorem q638 : (Jvm.Cond.castable "java/lang/NullPointerException" "java/lang/NullPointerException") ∈ lw_tbl := lw_at lw_m3 89 rfl
theorem q639 : (Jvm.Cond.selects "java/lang/NullPointerException" ({ cls := "java/lang/Throwable", name := "fillInStackTrace", desc := "(I)Ljava/lang/Throwable;" } : Jvm.MethodName) ({ cls := "java/lang/Throwable", name := "fillInStackTrace", desc := "(I)Ljava/lang/Throwable;" } : Jvm.MethodName)) ∈ lw_all := lw_g (lw_at lw_m3 90 rfl) rfl
theorem in_J9 : ∀ w ∈ wsJ90, w ∈ lw_all := lw_in wsJ90 [632, 633, 634, 635, 636, 637, 628, 630] (by decide +kernel) (by decide +kernel)

/-! java/lang/Object -/
set_option maxRecDepth 100000
def RJ10 : String := "java/lang/Object"
abbrev cJ10_init : ByteArray := object_method_1_code
def yJ10_init : MethodName := ⟨RJ10, "<init>", "()V"⟩
theorem dJ10_init_0 : decode cJ10_init 0 = .ok (.return_, 1) := by decide +kernel
theorem q96 : (Jvm.Cond.instanceMethod ({ cls := "java/lang/Object", name := "<init>", desc := "()V" } : Jvm.MethodName)) ∈ lw_all := lw_g (lw_at lw_m1 27 rfl) rfl
theorem q97 : (Jvm.Cond.code ({ cls := "java/lang/Object", name := "<init>", desc := "()V" } : Jvm.MethodName) object_method_1_code (1 : Nat) (Option.none : Option Jvm.ClassFile.FieldType)) ∈ lw_all := lw_g (lw_at lw_m1 28 rfl) rfl

theorem q69 : (Jvm.Cond.initialized "DeadlineTreeLaw") ∈ lw_all := lw_g (lw_at lw_m1 0 rfl) rfl
set_option maxRecDepth 100000
theorem q90 : (Jvm.Cond.classLink "DeadlineTreeLaw" (7 : Nat) "DeadlineTree") ∈ lw_all := lw_g (lw_at lw_m1 21 rfl) rfl
theorem q92 : (Jvm.Cond.methodLink "DeadlineTreeLaw" (9 : Nat) ({ cls := "DeadlineTree", name := "<init>", desc := "()V" } : Jvm.MethodName)) ∈ lw_all := lw_g (lw_at lw_m1 23 rfl) rfl
theorem q586 : (Jvm.Cond.methodLink "DeadlineTreeLaw" (13 : Nat) ({ cls := "DeadlineTree", name := "write", desc := "(I)I" } : Jvm.MethodName)) ∈ lw_all := lw_g (lw_at lw_m3 37 rfl) rfl
theorem q587 : (Jvm.Cond.methodLink "DeadlineTreeLaw" (18 : Nat) ({ cls := "DeadlineTree", name := "wipe", desc := "()I" } : Jvm.MethodName)) ∈ lw_all := lw_g (lw_at lw_m3 38 rfl) rfl
theorem q591 : (Jvm.Cond.methodLink "DeadlineTreeLaw" (23 : Nat) ({ cls := "DeadlineTree", name := "fault", desc := "()I" } : Jvm.MethodName)) ∈ lw_all := lw_g (lw_at lw_m3 42 rfl) rfl
theorem q595 : (Jvm.Cond.methodLink "DeadlineTreeLaw" (27 : Nat) ({ cls := "DeadlineTree", name := "lay", desc := "()I" } : Jvm.MethodName)) ∈ lw_all := lw_g (lw_at lw_m3 46 rfl) rfl
theorem q596 : (Jvm.Cond.methodLink "DeadlineTreeLaw" (31 : Nat) ({ cls := "DeadlineTree", name := "job", desc := "(II)I" } : Jvm.MethodName)) ∈ lw_all := lw_g (lw_at lw_m3 47 rfl) rfl
theorem q612 : (Jvm.Cond.methodLink "DeadlineTreeLaw" (36 : Nat) ({ cls := "DeadlineTree", name := "node", desc := "(II)I" } : Jvm.MethodName)) ∈ lw_all := lw_g (lw_at lw_m3 63 rfl) rfl
theorem q646 : (Jvm.Cond.methodLink "DeadlineTreeLaw" (40 : Nat) ({ cls := "DeadlineTree", name := "add", desc := "(IIII)I" } : Jvm.MethodName)) ∈ lw_all := lw_g (lw_at lw_m3 97 rfl) rfl
theorem q658 : (Jvm.Cond.methodLink "DeadlineTreeLaw" (45 : Nat) ({ cls := "DeadlineTree", name := "cut", desc := "(I)I" } : Jvm.MethodName)) ∈ lw_all := lw_g (lw_at lw_m3 109 rfl) rfl
theorem q685 : (Jvm.Cond.methodLink "DeadlineTreeLaw" (49 : Nat) ({ cls := "DeadlineTree", name := "delay", desc := "(II)I" } : Jvm.MethodName)) ∈ lw_all := lw_g (lw_at lw_m3 136 rfl) rfl
theorem q693 : (Jvm.Cond.methodLink "DeadlineTreeLaw" (53 : Nat) ({ cls := "DeadlineTree", name := "level", desc := "()I" } : Jvm.MethodName)) ∈ lw_all := lw_g (lw_at lw_m3 144 rfl) rfl
theorem q706 : (Jvm.Cond.methodLink "DeadlineTreeLaw" (57 : Nat) ({ cls := "DeadlineTree", name := "undo", desc := "()I" } : Jvm.MethodName)) ∈ lw_all := lw_g (lw_at lw_m3 157 rfl) rfl
theorem q710 : (Jvm.Cond.methodLink "DeadlineTreeLaw" (61 : Nat) ({ cls := "DeadlineTree", name := "found", desc := "(IIII)I" } : Jvm.MethodName)) ∈ lw_all := lw_g (lw_at lw_m3 161 rfl) rfl
theorem q726 : (Jvm.Cond.methodLink "DeadlineTreeLaw" (65 : Nat) ({ cls := "DeadlineTree", name := "first", desc := "(III)I" } : Jvm.MethodName)) ∈ lw_all := lw_g (lw_at lw_m3 177 rfl) rfl
theorem q731 : (Jvm.Cond.methodLink "DeadlineTreeLaw" (70 : Nat) ({ cls := "DeadlineTree", name := "soonest", desc := "(II)I" } : Jvm.MethodName)) ∈ lw_all := lw_g (lw_at lw_m3 182 rfl) rfl
theorem q745 : (Jvm.Cond.methodLink "DeadlineTreeLaw" (74 : Nat) ({ cls := "DeadlineTree", name := "end", desc := "(I)I" } : Jvm.MethodName)) ∈ lw_all := lw_g (lw_at lw_m3 196 rfl) rfl
theorem q769 : (Jvm.Cond.methodLink "DeadlineTreeLaw" (78 : Nat) ({ cls := "DeadlineTree", name := "late", desc := "()I" } : Jvm.MethodName)) ∈ lw_all := lw_g (lw_at lw_m3 220 rfl) rfl
theorem q773 : (Jvm.Cond.methodLink "DeadlineTreeLaw" (82 : Nat) ({ cls := "DeadlineTree", name := "drop", desc := "(I)I" } : Jvm.MethodName)) ∈ lw_all := lw_g (lw_at lw_m3 224 rfl) rfl
theorem q778 : (Jvm.Cond.methodLink "DeadlineTreeLaw" (86 : Nat) ({ cls := "DeadlineTree", name := "more", desc := "()I" } : Jvm.MethodName)) ∈ lw_all := lw_g (lw_at lw_m3 229 rfl) rfl
theorem q782 : (Jvm.Cond.methodLink "DeadlineTreeLaw" (90 : Nat) ({ cls := "DeadlineTree", name := "day", desc := "(III)I" } : Jvm.MethodName)) ∈ lw_all := lw_g (lw_at lw_m3 233 rfl) rfl
theorem q799 : (Jvm.Cond.methodLink "DeadlineTreeLaw" (94 : Nat) ({ cls := "DeadlineTree", name := "keep", desc := "()I" } : Jvm.MethodName)) ∈ lw_all := lw_g (lw_at lw_m4 10 rfl) rfl
theorem q803 : (Jvm.Cond.methodLink "DeadlineTreeLaw" (98 : Nat) ({ cls := "DeadlineTree", name := "back", desc := "()I" } : Jvm.MethodName)) ∈ lw_all := lw_g (lw_at lw_m4 14 rfl) rfl
theorem q807 : (Jvm.Cond.methodLink "DeadlineTreeLaw" (102 : Nat) ({ cls := "DeadlineTree", name := "count", desc := "(I)I" } : Jvm.MethodName)) ∈ lw_all := lw_g (lw_at lw_m4 18 rfl) rfl
theorem q816 : (Jvm.Cond.classLink "DeadlineTreeLaw" (10 : Nat) "DeadlineTreeModel") ∈ lw_all := lw_g (lw_at lw_m4 27 rfl) rfl
theorem q818 : (Jvm.Cond.methodLink "DeadlineTreeLaw" (12 : Nat) ({ cls := "DeadlineTreeModel", name := "<init>", desc := "()V" } : Jvm.MethodName)) ∈ lw_all := lw_g (lw_at lw_m4 29 rfl) rfl
theorem q972 : (Jvm.Cond.methodLink "DeadlineTreeLaw" (35 : Nat) ({ cls := "DeadlineTreeModel", name := "job", desc := "(II)I" } : Jvm.MethodName)) ∈ lw_all := lw_g (lw_at lw_m4 183 rfl) rfl
theorem q1015 : (Jvm.Cond.methodLink "DeadlineTreeLaw" (39 : Nat) ({ cls := "DeadlineTreeModel", name := "node", desc := "(II)I" } : Jvm.MethodName)) ∈ lw_all := lw_g (lw_at lw_m4 226 rfl) rfl
theorem q1023 : (Jvm.Cond.methodLink "DeadlineTreeLaw" (44 : Nat) ({ cls := "DeadlineTreeModel", name := "add", desc := "(IIII)I" } : Jvm.MethodName)) ∈ lw_all := lw_g (lw_at lw_m4 234 rfl) rfl
theorem q1042 : (Jvm.Cond.methodLink "DeadlineTreeLaw" (48 : Nat) ({ cls := "DeadlineTreeModel", name := "cut", desc := "(I)I" } : Jvm.MethodName)) ∈ lw_all := lw_g (lw_at lw_m5 13 rfl) rfl
theorem q1050 : (Jvm.Cond.methodLink "DeadlineTreeLaw" (52 : Nat) ({ cls := "DeadlineTreeModel", name := "delay", desc := "(II)I" } : Jvm.MethodName)) ∈ lw_all := lw_g (lw_at lw_m5 21 rfl) rfl
theorem q1054 : (Jvm.Cond.methodLink "DeadlineTreeLaw" (56 : Nat) ({ cls := "DeadlineTreeModel", name := "level", desc := "()I" } : Jvm.MethodName)) ∈ lw_all := lw_g (lw_at lw_m5 25 rfl) rfl
theorem q1062 : (Jvm.Cond.methodLink "DeadlineTreeLaw" (60 : Nat) ({ cls := "DeadlineTreeModel", name := "undo", desc := "()I" } : Jvm.MethodName)) ∈ lw_all := lw_g (lw_at lw_m5 33 rfl) rfl
theorem q1070 : (Jvm.Cond.methodLink "DeadlineTreeLaw" (97 : Nat) ({ cls := "DeadlineTreeModel", name := "keep", desc := "()I" } : Jvm.MethodName)) ∈ lw_all := lw_g (lw_at lw_m5 41 rfl) rfl
theorem q1074 : (Jvm.Cond.methodLink "DeadlineTreeLaw" (101 : Nat) ({ cls := "DeadlineTreeModel", name := "back", desc := "()I" } : Jvm.MethodName)) ∈ lw_all := lw_g (lw_at lw_m5 45 rfl) rfl
theorem q1078 : (Jvm.Cond.methodLink "DeadlineTreeLaw" (64 : Nat) ({ cls := "DeadlineTreeModel", name := "found", desc := "(IIII)I" } : Jvm.MethodName)) ∈ lw_all := lw_g (lw_at lw_m5 49 rfl) rfl
theorem q1089 : (Jvm.Cond.methodLink "DeadlineTreeLaw" (69 : Nat) ({ cls := "DeadlineTreeModel", name := "first", desc := "(III)I" } : Jvm.MethodName)) ∈ lw_all := lw_g (lw_at lw_m5 60 rfl) rfl
theorem q1093 : (Jvm.Cond.methodLink "DeadlineTreeLaw" (73 : Nat) ({ cls := "DeadlineTreeModel", name := "soonest", desc := "(II)I" } : Jvm.MethodName)) ∈ lw_all := lw_g (lw_at lw_m5 64 rfl) rfl
theorem q1097 : (Jvm.Cond.methodLink "DeadlineTreeLaw" (77 : Nat) ({ cls := "DeadlineTreeModel", name := "end", desc := "(I)I" } : Jvm.MethodName)) ∈ lw_all := lw_g (lw_at lw_m5 68 rfl) rfl
theorem q1106 : (Jvm.Cond.methodLink "DeadlineTreeLaw" (81 : Nat) ({ cls := "DeadlineTreeModel", name := "late", desc := "()I" } : Jvm.MethodName)) ∈ lw_all := lw_g (lw_at lw_m5 77 rfl) rfl
theorem q1110 : (Jvm.Cond.methodLink "DeadlineTreeLaw" (85 : Nat) ({ cls := "DeadlineTreeModel", name := "drop", desc := "(I)I" } : Jvm.MethodName)) ∈ lw_all := lw_g (lw_at lw_m5 81 rfl) rfl
theorem q1117 : (Jvm.Cond.methodLink "DeadlineTreeLaw" (89 : Nat) ({ cls := "DeadlineTreeModel", name := "more", desc := "()I" } : Jvm.MethodName)) ∈ lw_all := lw_g (lw_at lw_m5 88 rfl) rfl
theorem q1121 : (Jvm.Cond.methodLink "DeadlineTreeLaw" (93 : Nat) ({ cls := "DeadlineTreeModel", name := "day", desc := "(III)I" } : Jvm.MethodName)) ∈ lw_all := lw_g (lw_at lw_m5 92 rfl) rfl
theorem q1132 : (Jvm.Cond.methodLink "DeadlineTreeLaw" (105 : Nat) ({ cls := "DeadlineTreeModel", name := "count", desc := "(I)I" } : Jvm.MethodName)) ∈ lw_all := lw_g (lw_at lw_m5 103 rfl) rfl
theorem q1140 : (Jvm.Cond.methodLink "DeadlineTreeLaw" (17 : Nat) ({ cls := "DeadlineTreeModel", name := "write", desc := "(I)I" } : Jvm.MethodName)) ∈ lw_all := lw_g (lw_at lw_m5 111 rfl) rfl
theorem q1144 : (Jvm.Cond.methodLink "DeadlineTreeLaw" (22 : Nat) ({ cls := "DeadlineTreeModel", name := "wipe", desc := "()I" } : Jvm.MethodName)) ∈ lw_all := lw_g (lw_at lw_m5 115 rfl) rfl
theorem q1148 : (Jvm.Cond.methodLink "DeadlineTreeLaw" (26 : Nat) ({ cls := "DeadlineTreeModel", name := "fault", desc := "()I" } : Jvm.MethodName)) ∈ lw_all := lw_g (lw_at lw_m5 119 rfl) rfl
theorem q1168 : (Jvm.Cond.methodLink "DeadlineTreeLaw" (30 : Nat) ({ cls := "DeadlineTreeModel", name := "lay", desc := "()I" } : Jvm.MethodName)) ∈ lw_all := lw_g (lw_at lw_m5 139 rfl) rfl

theorem q87 : (Jvm.Cond.initialized "java/lang/System") ∈ lw_all := lw_g (lw_at lw_m1 18 rfl) rfl
set_option maxRecDepth 100000
theorem q537 : (Jvm.Cond.static ({ cls := "java/lang/System", name := "arraycopy", desc := "(Ljava/lang/Object;ILjava/lang/Object;II)V" } : Jvm.MethodName)) ∈ lw_all := lw_g (lw_at lw_m2 228 rfl) rfl
theorem q538 : (Jvm.Cond.native ({ cls := "java/lang/System", name := "arraycopy", desc := "(Ljava/lang/Object;ILjava/lang/Object;II)V" } : Jvm.MethodName)) ∈ lw_all := lw_g (lw_at lw_m2 229 rfl) rfl

theorem q99 : (Jvm.Cond.arrayOver (Jvm.ClassFile.FieldType.object "DeadlineTree$Ranked")) ∈ lw_tbl := lw_at lw_m1 30 rfl
set_option maxRecDepth 100000
theorem q107 : (Jvm.Cond.arrayOver (Jvm.ClassFile.FieldType.object "DeadlineTree$Node")) ∈ lw_tbl := lw_at lw_m1 38 rfl
theorem q147 : (Jvm.Cond.arrayClass Jvm.ClassFile.FieldType.byte) ∈ lw_all := lw_g (lw_at lw_m1 78 rfl) rfl
theorem q194 : (Jvm.Cond.arrayOver (Jvm.ClassFile.FieldType.object "DeadlineTree$State")) ∈ lw_tbl := lw_at lw_m1 125 rfl
theorem q202 : (Jvm.Cond.arrayClass Jvm.ClassFile.FieldType.int) ∈ lw_all := lw_g (lw_at lw_m1 133 rfl) rfl
