/-! DeadlineTree -/
set_option maxRecDepth 100000
def RX0 : String := "DeadlineTree"
def TX0 : u_T := fun k => match k with
  | 0 => ("DeadlineTree", "kinds", "[LDeadlineTree$Ranked;", true)
  | 1 => ("DeadlineTree", "read", "LDeadlineTree$State;", true)
  | 2 => ("DeadlineTree", "now", "LDeadlineTree$State;", true)
  | 3 => ("DeadlineTree", "run", "LDeadlineTree$State;", true)
  | 4 => ("DeadlineTree", "kept", "[LDeadlineTree$State;", true)
  | 5 => ("DeadlineTree", "keptMany", "I", false)
  | 6 => ("DeadlineTree", "undos", "[LDeadlineTree$State;", true)
  | 7 => ("DeadlineTree", "undoMany", "I", false)
  | 8 => ("DeadlineTree", "length", "I", false)
  | 9 => ("DeadlineTree", "text", "[B", true)
  | 10 => ("DeadlineTree", "at", "I", false)
  | 11 => ("DeadlineTree", "looks", "I", false)
  | 12 => ("DeadlineTree", "foundMany", "I", false)
  | 13 => ("DeadlineTree", "found", "[I", true)
  | _ => ("DeadlineTree", "ends", "[I", true)
def tyX0 : Nat → FieldType := fun k => match k with
  | 0 => .array (.object "DeadlineTree$Ranked")
  | 1 => .object "DeadlineTree$State"
  | 2 => .object "DeadlineTree$State"
  | 3 => .object "DeadlineTree$State"
  | 4 => .array (.object "DeadlineTree$State")
  | 5 => .int
  | 6 => .array (.object "DeadlineTree$State")
  | 7 => .int
  | 8 => .int
  | 9 => .array .byte
  | 10 => .int
  | 11 => .int
  | 12 => .int
  | 13 => .array .int
  | _ => .array .int
abbrev wsX00 : List Cond := u_ws RX0 TX0 15
set_option maxRecDepth 100000 in
theorem nmX0 : ∀ a, a < 15 → ∀ b, b < 15 → a ≠ b → (TX0 a).2.1 ≠ (TX0 b).2.1 := by decide +kernel
set_option maxRecDepth 100000 in
theorem tyX0_ok : ∀ k, k < 15 → parseFieldDescriptor (TX0 k).2.2.1 = some (tyX0 k) := by decide +kernel
abbrev cX0_init : ByteArray := prog_1_method_4_code
def yX0_init : MethodName := ⟨RX0, "<init>", "()V"⟩
def dkwX0_init_10 : List UInt8 := [181, 0, 87, 177]
abbrev dktX0_init_10 : List UInt8 := dkwX0_init_10 ++ []
def dkwX0_init_9 : List UInt8 := [43, 28, 182, 0, 76, 182, 0, 80, 87, 132, 2, 1, 167, 255, 235, 42, 182, 0, 84, 87, 42, 3]
abbrev dktX0_init_9 : List UInt8 := dkwX0_init_9 ++ dktX0_init_10
def dkwX0_init_8 : List UInt8 := [183, 0, 25, 83, 132, 1, 1, 167, 255, 233, 18, 68, 76, 3, 61, 28, 43, 182, 0, 70, 162, 0, 19, 42]
abbrev dktX0_init_8 : List UInt8 := dkwX0_init_8 ++ dktX0_init_9
def dkwX0_init_7 : List UInt8 := [132, 1, 1, 167, 255, 234, 3, 60, 27, 16, 8, 162, 0, 23, 42, 180, 0, 42, 27, 187, 0, 23, 89, 42]
abbrev dktX0_init_7 : List UInt8 := dkwX0_init_7 ++ dktX0_init_8
def dkwX0_init_6 : List UInt8 := [83, 3, 60, 27, 5, 162, 0, 23, 42, 180, 0, 38, 27, 187, 0, 23, 89, 42, 183, 0, 25, 83]
abbrev dktX0_init_6 : List UInt8 := dkwX0_init_6 ++ dktX0_init_7
def dkwX0_init_5 : List UInt8 := [180, 0, 19, 5, 187, 0, 62, 89, 183, 0, 64, 83, 42, 180, 0, 19, 6, 187, 0, 65, 89, 183, 0, 67]
abbrev dktX0_init_5 : List UInt8 := dkwX0_init_5 ++ dktX0_init_6
def dkwX0_init_4 : List UInt8 := [187, 0, 56, 89, 183, 0, 58, 83, 42, 180, 0, 19, 4, 187, 0, 59, 89, 183, 0, 61, 83, 42]
abbrev dktX0_init_4 : List UInt8 := dkwX0_init_4 ++ dktX0_init_5
def dkwX0_init_3 : List UInt8 := [181, 0, 45, 42, 16, 12, 188, 10, 181, 0, 49, 42, 16, 12, 188, 10, 181, 0, 53, 42, 180, 0, 19, 3]
abbrev dktX0_init_3 : List UInt8 := dkwX0_init_3 ++ dktX0_init_4
def dkwX0_init_2 : List UInt8 := [42, 5, 189, 0, 23, 181, 0, 38, 42, 16, 8, 189, 0, 23, 181, 0, 42, 42, 17, 0, 200, 188, 8]
abbrev dktX0_init_2 : List UInt8 := dkwX0_init_2 ++ dktX0_init_3
def dkwX0_init_1 : List UInt8 := [42, 187, 0, 23, 89, 42, 183, 0, 25, 181, 0, 32, 42, 187, 0, 23, 89, 42, 183, 0, 25, 181, 0, 35]
abbrev dktX0_init_1 : List UInt8 := dkwX0_init_1 ++ dktX0_init_2
def dkwX0_init_0 : List UInt8 := [42, 183, 0, 11, 42, 7, 189, 0, 17, 181, 0, 19, 42, 187, 0, 23, 89, 42, 183, 0, 25, 181, 0, 28]
abbrev dktX0_init_0 : List UInt8 := dkwX0_init_0 ++ dktX0_init_1
theorem dksX0_init_0 : cX0_init.data.toList.drop 0 = dktX0_init_0 := by decide +kernel
theorem dksX0_init_1 : cX0_init.data.toList.drop 24 = dktX0_init_1 := dk_seg dksX0_init_0 24 rfl rfl
theorem dksX0_init_2 : cX0_init.data.toList.drop 48 = dktX0_init_2 := dk_seg dksX0_init_1 24 rfl rfl
theorem dksX0_init_3 : cX0_init.data.toList.drop 71 = dktX0_init_3 := dk_seg dksX0_init_2 23 rfl rfl
theorem dksX0_init_4 : cX0_init.data.toList.drop 95 = dktX0_init_4 := dk_seg dksX0_init_3 24 rfl rfl
theorem dksX0_init_5 : cX0_init.data.toList.drop 117 = dktX0_init_5 := dk_seg dksX0_init_4 22 rfl rfl
theorem dksX0_init_6 : cX0_init.data.toList.drop 141 = dktX0_init_6 := dk_seg dksX0_init_5 24 rfl rfl
theorem dksX0_init_7 : cX0_init.data.toList.drop 163 = dktX0_init_7 := dk_seg dksX0_init_6 22 rfl rfl
theorem dksX0_init_8 : cX0_init.data.toList.drop 187 = dktX0_init_8 := dk_seg dksX0_init_7 24 rfl rfl
theorem dksX0_init_9 : cX0_init.data.toList.drop 211 = dktX0_init_9 := dk_seg dksX0_init_8 24 rfl rfl
theorem dksX0_init_10 : cX0_init.data.toList.drop 233 = dktX0_init_10 := dk_seg dksX0_init_9 22 rfl rfl
theorem dX0_init_0 : decode cX0_init 0 = .ok (.aload_n 0, 1) := dk_42 (dk_at dksX0_init_0 0 rfl rfl)
theorem dX0_init_1 : decode cX0_init 1 = .ok (.invokespecial 11, 3) := dk_183 0 11 (dk_at dksX0_init_0 1 rfl rfl)
theorem dX0_init_4 : decode cX0_init 4 = .ok (.aload_n 0, 1) := dk_42 (dk_at dksX0_init_0 4 rfl rfl)
theorem dX0_init_5 : decode cX0_init 5 = .ok (.iconst 4, 1) := dk_7 (dk_at dksX0_init_0 5 rfl rfl)
theorem dX0_init_6 : decode cX0_init 6 = .ok (.anewarray 17, 3) := dk_189 0 17 (dk_at dksX0_init_0 6 rfl rfl)
theorem dX0_init_9 : decode cX0_init 9 = .ok (.putfield 19, 3) := dk_181 0 19 (dk_at dksX0_init_0 9 rfl rfl)
theorem dX0_init_12 : decode cX0_init 12 = .ok (.aload_n 0, 1) := dk_42 (dk_at dksX0_init_0 12 rfl rfl)
theorem dX0_init_13 : decode cX0_init 13 = .ok (.new 23, 3) := dk_187 0 23 (dk_at dksX0_init_0 13 rfl rfl)
theorem dX0_init_16 : decode cX0_init 16 = .ok (.dup, 1) := dk_89 (dk_at dksX0_init_0 16 rfl rfl)
theorem dX0_init_17 : decode cX0_init 17 = .ok (.aload_n 0, 1) := dk_42 (dk_at dksX0_init_0 17 rfl rfl)
theorem dX0_init_18 : decode cX0_init 18 = .ok (.invokespecial 25, 3) := dk_183 0 25 (dk_at dksX0_init_0 18 rfl rfl)
theorem dX0_init_21 : decode cX0_init 21 = .ok (.putfield 28, 3) := dk_181 0 28 (dk_at dksX0_init_0 21 rfl rfl)
theorem dX0_init_24 : decode cX0_init 24 = .ok (.aload_n 0, 1) := dk_42 (dk_at dksX0_init_1 0 rfl rfl)
theorem dX0_init_25 : decode cX0_init 25 = .ok (.new 23, 3) := dk_187 0 23 (dk_at dksX0_init_1 1 rfl rfl)
theorem dX0_init_28 : decode cX0_init 28 = .ok (.dup, 1) := dk_89 (dk_at dksX0_init_1 4 rfl rfl)
theorem dX0_init_29 : decode cX0_init 29 = .ok (.aload_n 0, 1) := dk_42 (dk_at dksX0_init_1 5 rfl rfl)
theorem dX0_init_30 : decode cX0_init 30 = .ok (.invokespecial 25, 3) := dk_183 0 25 (dk_at dksX0_init_1 6 rfl rfl)
theorem dX0_init_33 : decode cX0_init 33 = .ok (.putfield 32, 3) := dk_181 0 32 (dk_at dksX0_init_1 9 rfl rfl)
theorem dX0_init_36 : decode cX0_init 36 = .ok (.aload_n 0, 1) := dk_42 (dk_at dksX0_init_1 12 rfl rfl)
theorem dX0_init_37 : decode cX0_init 37 = .ok (.new 23, 3) := dk_187 0 23 (dk_at dksX0_init_1 13 rfl rfl)
theorem dX0_init_40 : decode cX0_init 40 = .ok (.dup, 1) := dk_89 (dk_at dksX0_init_1 16 rfl rfl)
theorem dX0_init_41 : decode cX0_init 41 = .ok (.aload_n 0, 1) := dk_42 (dk_at dksX0_init_1 17 rfl rfl)
theorem dX0_init_42 : decode cX0_init 42 = .ok (.invokespecial 25, 3) := dk_183 0 25 (dk_at dksX0_init_1 18 rfl rfl)
theorem dX0_init_45 : decode cX0_init 45 = .ok (.putfield 35, 3) := dk_181 0 35 (dk_at dksX0_init_1 21 rfl rfl)
theorem dX0_init_48 : decode cX0_init 48 = .ok (.aload_n 0, 1) := dk_42 (dk_at dksX0_init_2 0 rfl rfl)
theorem dX0_init_49 : decode cX0_init 49 = .ok (.iconst 2, 1) := dk_5 (dk_at dksX0_init_2 1 rfl rfl)
theorem dX0_init_50 : decode cX0_init 50 = .ok (.anewarray 23, 3) := dk_189 0 23 (dk_at dksX0_init_2 2 rfl rfl)
theorem dX0_init_53 : decode cX0_init 53 = .ok (.putfield 38, 3) := dk_181 0 38 (dk_at dksX0_init_2 5 rfl rfl)
theorem dX0_init_56 : decode cX0_init 56 = .ok (.aload_n 0, 1) := dk_42 (dk_at dksX0_init_2 8 rfl rfl)
theorem dX0_init_57 : decode cX0_init 57 = .ok (.bipush 8, 2) := dk_16 8 (dk_at dksX0_init_2 9 rfl rfl)
theorem dX0_init_59 : decode cX0_init 59 = .ok (.anewarray 23, 3) := dk_189 0 23 (dk_at dksX0_init_2 11 rfl rfl)
theorem dX0_init_62 : decode cX0_init 62 = .ok (.putfield 42, 3) := dk_181 0 42 (dk_at dksX0_init_2 14 rfl rfl)
theorem dX0_init_65 : decode cX0_init 65 = .ok (.aload_n 0, 1) := dk_42 (dk_at dksX0_init_2 17 rfl rfl)
theorem dX0_init_66 : decode cX0_init 66 = .ok (.sipush 200, 3) := dk_17 0 200 (dk_at dksX0_init_2 18 rfl rfl)
theorem dX0_init_69 : decode cX0_init 69 = .ok (.newarray .byte, 2) := dk_188_8 (dk_at dksX0_init_2 21 rfl rfl)
theorem dX0_init_71 : decode cX0_init 71 = .ok (.putfield 45, 3) := dk_181 0 45 (dk_at dksX0_init_3 0 rfl rfl)
theorem dX0_init_74 : decode cX0_init 74 = .ok (.aload_n 0, 1) := dk_42 (dk_at dksX0_init_3 3 rfl rfl)
theorem dX0_init_75 : decode cX0_init 75 = .ok (.bipush 12, 2) := dk_16 12 (dk_at dksX0_init_3 4 rfl rfl)
theorem dX0_init_77 : decode cX0_init 77 = .ok (.newarray .int, 2) := dk_188_10 (dk_at dksX0_init_3 6 rfl rfl)
theorem dX0_init_79 : decode cX0_init 79 = .ok (.putfield 49, 3) := dk_181 0 49 (dk_at dksX0_init_3 8 rfl rfl)
theorem dX0_init_82 : decode cX0_init 82 = .ok (.aload_n 0, 1) := dk_42 (dk_at dksX0_init_3 11 rfl rfl)
theorem dX0_init_83 : decode cX0_init 83 = .ok (.bipush 12, 2) := dk_16 12 (dk_at dksX0_init_3 12 rfl rfl)
theorem dX0_init_85 : decode cX0_init 85 = .ok (.newarray .int, 2) := dk_188_10 (dk_at dksX0_init_3 14 rfl rfl)
theorem dX0_init_87 : decode cX0_init 87 = .ok (.putfield 53, 3) := dk_181 0 53 (dk_at dksX0_init_3 16 rfl rfl)
theorem dX0_init_90 : decode cX0_init 90 = .ok (.aload_n 0, 1) := dk_42 (dk_at dksX0_init_3 19 rfl rfl)
theorem dX0_init_91 : decode cX0_init 91 = .ok (.getfield 19, 3) := dk_180 0 19 (dk_at dksX0_init_3 20 rfl rfl)
theorem dX0_init_94 : decode cX0_init 94 = .ok (.iconst 0, 1) := dk_3 (dk_at dksX0_init_3 23 rfl rfl)
theorem dX0_init_95 : decode cX0_init 95 = .ok (.new 56, 3) := dk_187 0 56 (dk_at dksX0_init_4 0 rfl rfl)
theorem dX0_init_98 : decode cX0_init 98 = .ok (.dup, 1) := dk_89 (dk_at dksX0_init_4 3 rfl rfl)
theorem dX0_init_99 : decode cX0_init 99 = .ok (.invokespecial 58, 3) := dk_183 0 58 (dk_at dksX0_init_4 4 rfl rfl)
theorem dX0_init_102 : decode cX0_init 102 = .ok (.aastore, 1) := dk_83 (dk_at dksX0_init_4 7 rfl rfl)
theorem dX0_init_103 : decode cX0_init 103 = .ok (.aload_n 0, 1) := dk_42 (dk_at dksX0_init_4 8 rfl rfl)
theorem dX0_init_104 : decode cX0_init 104 = .ok (.getfield 19, 3) := dk_180 0 19 (dk_at dksX0_init_4 9 rfl rfl)
theorem dX0_init_107 : decode cX0_init 107 = .ok (.iconst 1, 1) := dk_4 (dk_at dksX0_init_4 12 rfl rfl)
theorem dX0_init_108 : decode cX0_init 108 = .ok (.new 59, 3) := dk_187 0 59 (dk_at dksX0_init_4 13 rfl rfl)
theorem dX0_init_111 : decode cX0_init 111 = .ok (.dup, 1) := dk_89 (dk_at dksX0_init_4 16 rfl rfl)
theorem dX0_init_112 : decode cX0_init 112 = .ok (.invokespecial 61, 3) := dk_183 0 61 (dk_at dksX0_init_4 17 rfl rfl)
theorem dX0_init_115 : decode cX0_init 115 = .ok (.aastore, 1) := dk_83 (dk_at dksX0_init_4 20 rfl rfl)
theorem dX0_init_116 : decode cX0_init 116 = .ok (.aload_n 0, 1) := dk_42 (dk_at dksX0_init_4 21 rfl rfl)
theorem dX0_init_117 : decode cX0_init 117 = .ok (.getfield 19, 3) := dk_180 0 19 (dk_at dksX0_init_5 0 rfl rfl)
theorem dX0_init_120 : decode cX0_init 120 = .ok (.iconst 2, 1) := dk_5 (dk_at dksX0_init_5 3 rfl rfl)
theorem dX0_init_121 : decode cX0_init 121 = .ok (.new 62, 3) := dk_187 0 62 (dk_at dksX0_init_5 4 rfl rfl)
theorem dX0_init_124 : decode cX0_init 124 = .ok (.dup, 1) := dk_89 (dk_at dksX0_init_5 7 rfl rfl)
theorem dX0_init_125 : decode cX0_init 125 = .ok (.invokespecial 64, 3) := dk_183 0 64 (dk_at dksX0_init_5 8 rfl rfl)
theorem dX0_init_128 : decode cX0_init 128 = .ok (.aastore, 1) := dk_83 (dk_at dksX0_init_5 11 rfl rfl)
theorem dX0_init_129 : decode cX0_init 129 = .ok (.aload_n 0, 1) := dk_42 (dk_at dksX0_init_5 12 rfl rfl)
theorem dX0_init_130 : decode cX0_init 130 = .ok (.getfield 19, 3) := dk_180 0 19 (dk_at dksX0_init_5 13 rfl rfl)
theorem dX0_init_133 : decode cX0_init 133 = .ok (.iconst 3, 1) := dk_6 (dk_at dksX0_init_5 16 rfl rfl)
theorem dX0_init_134 : decode cX0_init 134 = .ok (.new 65, 3) := dk_187 0 65 (dk_at dksX0_init_5 17 rfl rfl)
theorem dX0_init_137 : decode cX0_init 137 = .ok (.dup, 1) := dk_89 (dk_at dksX0_init_5 20 rfl rfl)
theorem dX0_init_138 : decode cX0_init 138 = .ok (.invokespecial 67, 3) := dk_183 0 67 (dk_at dksX0_init_5 21 rfl rfl)
theorem dX0_init_141 : decode cX0_init 141 = .ok (.aastore, 1) := dk_83 (dk_at dksX0_init_6 0 rfl rfl)
theorem dX0_init_142 : decode cX0_init 142 = .ok (.iconst 0, 1) := dk_3 (dk_at dksX0_init_6 1 rfl rfl)
theorem dX0_init_143 : decode cX0_init 143 = .ok (.istore_n 1, 1) := dk_60 (dk_at dksX0_init_6 2 rfl rfl)
theorem dX0_init_144 : decode cX0_init 144 = .ok (.iload_n 1, 1) := dk_27 (dk_at dksX0_init_6 3 rfl rfl)
theorem dX0_init_145 : decode cX0_init 145 = .ok (.iconst 2, 1) := dk_5 (dk_at dksX0_init_6 4 rfl rfl)
theorem dX0_init_146 : decode cX0_init 146 = .ok (.if_icmp .ge 23, 3) := dk_162 0 23 (dk_at dksX0_init_6 5 rfl rfl)
theorem dX0_init_149 : decode cX0_init 149 = .ok (.aload_n 0, 1) := dk_42 (dk_at dksX0_init_6 8 rfl rfl)
theorem dX0_init_150 : decode cX0_init 150 = .ok (.getfield 38, 3) := dk_180 0 38 (dk_at dksX0_init_6 9 rfl rfl)
theorem dX0_init_153 : decode cX0_init 153 = .ok (.iload_n 1, 1) := dk_27 (dk_at dksX0_init_6 12 rfl rfl)
theorem dX0_init_154 : decode cX0_init 154 = .ok (.new 23, 3) := dk_187 0 23 (dk_at dksX0_init_6 13 rfl rfl)
theorem dX0_init_157 : decode cX0_init 157 = .ok (.dup, 1) := dk_89 (dk_at dksX0_init_6 16 rfl rfl)
theorem dX0_init_158 : decode cX0_init 158 = .ok (.aload_n 0, 1) := dk_42 (dk_at dksX0_init_6 17 rfl rfl)
theorem dX0_init_159 : decode cX0_init 159 = .ok (.invokespecial 25, 3) := dk_183 0 25 (dk_at dksX0_init_6 18 rfl rfl)
theorem dX0_init_162 : decode cX0_init 162 = .ok (.aastore, 1) := dk_83 (dk_at dksX0_init_6 21 rfl rfl)
theorem dX0_init_163 : decode cX0_init 163 = .ok (.iinc 1 1, 3) := dk_132 1 1 (dk_at dksX0_init_7 0 rfl rfl)
theorem dX0_init_166 : decode cX0_init 166 = .ok (.goto (-22), 3) := dk_167 255 234 (dk_at dksX0_init_7 3 rfl rfl)
theorem dX0_init_169 : decode cX0_init 169 = .ok (.iconst 0, 1) := dk_3 (dk_at dksX0_init_7 6 rfl rfl)
theorem dX0_init_170 : decode cX0_init 170 = .ok (.istore_n 1, 1) := dk_60 (dk_at dksX0_init_7 7 rfl rfl)
theorem dX0_init_171 : decode cX0_init 171 = .ok (.iload_n 1, 1) := dk_27 (dk_at dksX0_init_7 8 rfl rfl)
theorem dX0_init_172 : decode cX0_init 172 = .ok (.bipush 8, 2) := dk_16 8 (dk_at dksX0_init_7 9 rfl rfl)
theorem dX0_init_174 : decode cX0_init 174 = .ok (.if_icmp .ge 23, 3) := dk_162 0 23 (dk_at dksX0_init_7 11 rfl rfl)
theorem dX0_init_177 : decode cX0_init 177 = .ok (.aload_n 0, 1) := dk_42 (dk_at dksX0_init_7 14 rfl rfl)
theorem dX0_init_178 : decode cX0_init 178 = .ok (.getfield 42, 3) := dk_180 0 42 (dk_at dksX0_init_7 15 rfl rfl)
theorem dX0_init_181 : decode cX0_init 181 = .ok (.iload_n 1, 1) := dk_27 (dk_at dksX0_init_7 18 rfl rfl)
theorem dX0_init_182 : decode cX0_init 182 = .ok (.new 23, 3) := dk_187 0 23 (dk_at dksX0_init_7 19 rfl rfl)
theorem dX0_init_185 : decode cX0_init 185 = .ok (.dup, 1) := dk_89 (dk_at dksX0_init_7 22 rfl rfl)
theorem dX0_init_186 : decode cX0_init 186 = .ok (.aload_n 0, 1) := dk_42 (dk_at dksX0_init_7 23 rfl rfl)
theorem dX0_init_187 : decode cX0_init 187 = .ok (.invokespecial 25, 3) := dk_183 0 25 (dk_at dksX0_init_8 0 rfl rfl)
theorem dX0_init_190 : decode cX0_init 190 = .ok (.aastore, 1) := dk_83 (dk_at dksX0_init_8 3 rfl rfl)
theorem dX0_init_191 : decode cX0_init 191 = .ok (.iinc 1 1, 3) := dk_132 1 1 (dk_at dksX0_init_8 4 rfl rfl)
theorem dX0_init_194 : decode cX0_init 194 = .ok (.goto (-23), 3) := dk_167 255 233 (dk_at dksX0_init_8 7 rfl rfl)
theorem dX0_init_197 : decode cX0_init 197 = .ok (.ldc 68, 2) := dk_18 68 (dk_at dksX0_init_8 10 rfl rfl)
theorem dX0_init_199 : decode cX0_init 199 = .ok (.astore_n 1, 1) := dk_76 (dk_at dksX0_init_8 12 rfl rfl)
theorem dX0_init_200 : decode cX0_init 200 = .ok (.iconst 0, 1) := dk_3 (dk_at dksX0_init_8 13 rfl rfl)
theorem dX0_init_201 : decode cX0_init 201 = .ok (.istore_n 2, 1) := dk_61 (dk_at dksX0_init_8 14 rfl rfl)
theorem dX0_init_202 : decode cX0_init 202 = .ok (.iload_n 2, 1) := dk_28 (dk_at dksX0_init_8 15 rfl rfl)
theorem dX0_init_203 : decode cX0_init 203 = .ok (.aload_n 1, 1) := dk_43 (dk_at dksX0_init_8 16 rfl rfl)
theorem dX0_init_204 : decode cX0_init 204 = .ok (.invokevirtual 70, 3) := dk_182 0 70 (dk_at dksX0_init_8 17 rfl rfl)
theorem dX0_init_207 : decode cX0_init 207 = .ok (.if_icmp .ge 19, 3) := dk_162 0 19 (dk_at dksX0_init_8 20 rfl rfl)
theorem dX0_init_210 : decode cX0_init 210 = .ok (.aload_n 0, 1) := dk_42 (dk_at dksX0_init_8 23 rfl rfl)
theorem dX0_init_211 : decode cX0_init 211 = .ok (.aload_n 1, 1) := dk_43 (dk_at dksX0_init_9 0 rfl rfl)
theorem dX0_init_212 : decode cX0_init 212 = .ok (.iload_n 2, 1) := dk_28 (dk_at dksX0_init_9 1 rfl rfl)
theorem dX0_init_213 : decode cX0_init 213 = .ok (.invokevirtual 76, 3) := dk_182 0 76 (dk_at dksX0_init_9 2 rfl rfl)
theorem dX0_init_216 : decode cX0_init 216 = .ok (.invokevirtual 80, 3) := dk_182 0 80 (dk_at dksX0_init_9 5 rfl rfl)
theorem dX0_init_219 : decode cX0_init 219 = .ok (.pop, 1) := dk_87 (dk_at dksX0_init_9 8 rfl rfl)
theorem dX0_init_220 : decode cX0_init 220 = .ok (.iinc 2 1, 3) := dk_132 2 1 (dk_at dksX0_init_9 9 rfl rfl)
theorem dX0_init_223 : decode cX0_init 223 = .ok (.goto (-21), 3) := dk_167 255 235 (dk_at dksX0_init_9 12 rfl rfl)
theorem dX0_init_226 : decode cX0_init 226 = .ok (.aload_n 0, 1) := dk_42 (dk_at dksX0_init_9 15 rfl rfl)
theorem dX0_init_227 : decode cX0_init 227 = .ok (.invokevirtual 84, 3) := dk_182 0 84 (dk_at dksX0_init_9 16 rfl rfl)
theorem dX0_init_230 : decode cX0_init 230 = .ok (.pop, 1) := dk_87 (dk_at dksX0_init_9 19 rfl rfl)
theorem dX0_init_231 : decode cX0_init 231 = .ok (.aload_n 0, 1) := dk_42 (dk_at dksX0_init_9 20 rfl rfl)
theorem dX0_init_232 : decode cX0_init 232 = .ok (.iconst 0, 1) := dk_3 (dk_at dksX0_init_9 21 rfl rfl)
theorem dX0_init_233 : decode cX0_init 233 = .ok (.putfield 87, 3) := dk_181 0 87 (dk_at dksX0_init_10 0 rfl rfl)
theorem dX0_init_236 : decode cX0_init 236 = .ok (.return_, 1) := dk_177 (dk_at dksX0_init_10 3 rfl rfl)
abbrev cX0_write : ByteArray := prog_1_method_5_code
def yX0_write : MethodName := ⟨RX0, "write", "(I)I"⟩
def dkwX0_write_2 : List UInt8 := [181, 0, 87, 42, 180, 0, 87, 172]
abbrev dktX0_write_2 : List UInt8 := dkwX0_write_2 ++ []
def dkwX0_write_1 : List UInt8 := [160, 0, 6, 16, 253, 172, 42, 180, 0, 45, 42, 180, 0, 87, 27, 145, 84, 42, 89, 180, 0, 87, 4, 96]
abbrev dktX0_write_1 : List UInt8 := dkwX0_write_1 ++ dktX0_write_2
def dkwX0_write_0 : List UInt8 := [27, 133, 20, 0, 89, 20, 0, 91, 184, 0, 93, 154, 0, 5, 2, 172, 42, 180, 0, 87, 17, 0, 200]
abbrev dktX0_write_0 : List UInt8 := dkwX0_write_0 ++ dktX0_write_1
theorem dksX0_write_0 : cX0_write.data.toList.drop 0 = dktX0_write_0 := by decide +kernel
theorem dksX0_write_1 : cX0_write.data.toList.drop 23 = dktX0_write_1 := dk_seg dksX0_write_0 23 rfl rfl
theorem dksX0_write_2 : cX0_write.data.toList.drop 47 = dktX0_write_2 := dk_seg dksX0_write_1 24 rfl rfl
theorem dX0_write_0 : decode cX0_write 0 = .ok (.iload_n 1, 1) := dk_27 (dk_at dksX0_write_0 0 rfl rfl)
theorem dX0_write_1 : decode cX0_write 1 = .ok (.i2l, 1) := dk_133 (dk_at dksX0_write_0 1 rfl rfl)
theorem dX0_write_2 : decode cX0_write 2 = .ok (.ldc2_w 89, 3) := dk_20 0 89 (dk_at dksX0_write_0 2 rfl rfl)
theorem dX0_write_5 : decode cX0_write 5 = .ok (.ldc2_w 91, 3) := dk_20 0 91 (dk_at dksX0_write_0 5 rfl rfl)
theorem dX0_write_8 : decode cX0_write 8 = .ok (.invokestatic 93, 3) := dk_184 0 93 (dk_at dksX0_write_0 8 rfl rfl)
theorem dX0_write_11 : decode cX0_write 11 = .ok (.ifCond .ne 5, 3) := dk_154 0 5 (dk_at dksX0_write_0 11 rfl rfl)
theorem dX0_write_14 : decode cX0_write 14 = .ok (.iconst (-1), 1) := dk_2 (dk_at dksX0_write_0 14 rfl rfl)
theorem dX0_write_15 : decode cX0_write 15 = .ok (.ireturn, 1) := dk_172 (dk_at dksX0_write_0 15 rfl rfl)
theorem dX0_write_16 : decode cX0_write 16 = .ok (.aload_n 0, 1) := dk_42 (dk_at dksX0_write_0 16 rfl rfl)
theorem dX0_write_17 : decode cX0_write 17 = .ok (.getfield 87, 3) := dk_180 0 87 (dk_at dksX0_write_0 17 rfl rfl)
theorem dX0_write_20 : decode cX0_write 20 = .ok (.sipush 200, 3) := dk_17 0 200 (dk_at dksX0_write_0 20 rfl rfl)
theorem dX0_write_23 : decode cX0_write 23 = .ok (.if_icmp .ne 6, 3) := dk_160 0 6 (dk_at dksX0_write_1 0 rfl rfl)
theorem dX0_write_26 : decode cX0_write 26 = .ok (.bipush (-3), 2) := dk_16 253 (dk_at dksX0_write_1 3 rfl rfl)
theorem dX0_write_28 : decode cX0_write 28 = .ok (.ireturn, 1) := dk_172 (dk_at dksX0_write_1 5 rfl rfl)
theorem dX0_write_29 : decode cX0_write 29 = .ok (.aload_n 0, 1) := dk_42 (dk_at dksX0_write_1 6 rfl rfl)
theorem dX0_write_30 : decode cX0_write 30 = .ok (.getfield 45, 3) := dk_180 0 45 (dk_at dksX0_write_1 7 rfl rfl)
theorem dX0_write_33 : decode cX0_write 33 = .ok (.aload_n 0, 1) := dk_42 (dk_at dksX0_write_1 10 rfl rfl)
theorem dX0_write_34 : decode cX0_write 34 = .ok (.getfield 87, 3) := dk_180 0 87 (dk_at dksX0_write_1 11 rfl rfl)
theorem dX0_write_37 : decode cX0_write 37 = .ok (.iload_n 1, 1) := dk_27 (dk_at dksX0_write_1 14 rfl rfl)
theorem dX0_write_38 : decode cX0_write 38 = .ok (.i2b, 1) := dk_145 (dk_at dksX0_write_1 15 rfl rfl)
theorem dX0_write_39 : decode cX0_write 39 = .ok (.bastore, 1) := dk_84 (dk_at dksX0_write_1 16 rfl rfl)
theorem dX0_write_40 : decode cX0_write 40 = .ok (.aload_n 0, 1) := dk_42 (dk_at dksX0_write_1 17 rfl rfl)
theorem dX0_write_41 : decode cX0_write 41 = .ok (.dup, 1) := dk_89 (dk_at dksX0_write_1 18 rfl rfl)
theorem dX0_write_42 : decode cX0_write 42 = .ok (.getfield 87, 3) := dk_180 0 87 (dk_at dksX0_write_1 19 rfl rfl)
theorem dX0_write_45 : decode cX0_write 45 = .ok (.iconst 1, 1) := dk_4 (dk_at dksX0_write_1 22 rfl rfl)
theorem dX0_write_46 : decode cX0_write 46 = .ok (.iadd, 1) := dk_96 (dk_at dksX0_write_1 23 rfl rfl)
theorem dX0_write_47 : decode cX0_write 47 = .ok (.putfield 87, 3) := dk_181 0 87 (dk_at dksX0_write_2 0 rfl rfl)
theorem dX0_write_50 : decode cX0_write 50 = .ok (.aload_n 0, 1) := dk_42 (dk_at dksX0_write_2 3 rfl rfl)
theorem dX0_write_51 : decode cX0_write 51 = .ok (.getfield 87, 3) := dk_180 0 87 (dk_at dksX0_write_2 4 rfl rfl)
theorem dX0_write_54 : decode cX0_write 54 = .ok (.ireturn, 1) := dk_172 (dk_at dksX0_write_2 7 rfl rfl)
abbrev cX0_isIn : ByteArray := prog_1_method_1_code
def yX0_isIn : MethodName := ⟨RX0, "isIn", "(JJJ)Z"⟩
def dkwX0_isIn_0 : List UInt8 := [30, 32, 148, 155, 0, 14, 30, 22, 4, 148, 157, 0, 7, 4, 167, 0, 4, 3, 172]
abbrev dktX0_isIn_0 : List UInt8 := dkwX0_isIn_0 ++ []
theorem dksX0_isIn_0 : cX0_isIn.data.toList.drop 0 = dktX0_isIn_0 := by decide +kernel
theorem dX0_isIn_0 : decode cX0_isIn 0 = .ok (.lload_n 0, 1) := dk_30 (dk_at dksX0_isIn_0 0 rfl rfl)
theorem dX0_isIn_1 : decode cX0_isIn 1 = .ok (.lload_n 2, 1) := dk_32 (dk_at dksX0_isIn_0 1 rfl rfl)
theorem dX0_isIn_2 : decode cX0_isIn 2 = .ok (.lcmp, 1) := dk_148 (dk_at dksX0_isIn_0 2 rfl rfl)
theorem dX0_isIn_3 : decode cX0_isIn 3 = .ok (.ifCond .lt 14, 3) := dk_155 0 14 (dk_at dksX0_isIn_0 3 rfl rfl)
theorem dX0_isIn_6 : decode cX0_isIn 6 = .ok (.lload_n 0, 1) := dk_30 (dk_at dksX0_isIn_0 6 rfl rfl)
theorem dX0_isIn_7 : decode cX0_isIn 7 = .ok (.lload 4, 2) := dk_22 4 (dk_at dksX0_isIn_0 7 rfl rfl)
theorem dX0_isIn_9 : decode cX0_isIn 9 = .ok (.lcmp, 1) := dk_148 (dk_at dksX0_isIn_0 9 rfl rfl)
theorem dX0_isIn_10 : decode cX0_isIn 10 = .ok (.ifCond .gt 7, 3) := dk_157 0 7 (dk_at dksX0_isIn_0 10 rfl rfl)
theorem dX0_isIn_13 : decode cX0_isIn 13 = .ok (.iconst 1, 1) := dk_4 (dk_at dksX0_isIn_0 13 rfl rfl)
theorem dX0_isIn_14 : decode cX0_isIn 14 = .ok (.goto 4, 3) := dk_167 0 4 (dk_at dksX0_isIn_0 14 rfl rfl)
theorem dX0_isIn_17 : decode cX0_isIn 17 = .ok (.iconst 0, 1) := dk_3 (dk_at dksX0_isIn_0 17 rfl rfl)
theorem dX0_isIn_18 : decode cX0_isIn 18 = .ok (.ireturn, 1) := dk_172 (dk_at dksX0_isIn_0 18 rfl rfl)
abbrev cX0_lay : ByteArray := prog_1_method_14_code
def yX0_lay : MethodName := ⟨RX0, "lay", "()I"⟩
def dkwX0_lay_2 : List UInt8 := [182, 0, 124, 172]
abbrev dktX0_lay_2 : List UInt8 := dkwX0_lay_2 ++ []
def dkwX0_lay_1 : List UInt8 := [180, 0, 32, 42, 180, 0, 28, 182, 0, 143, 42, 3, 181, 0, 147, 42, 3, 181, 0, 150, 42, 180, 0, 32]
abbrev dktX0_lay_1 : List UInt8 := dkwX0_lay_1 ++ dktX0_lay_2
def dkwX0_lay_0 : List UInt8 := [42, 182, 0, 137, 16, 252, 160, 0, 13, 42, 180, 0, 28, 180, 0, 140, 154, 0, 6, 16, 254, 172, 42]
abbrev dktX0_lay_0 : List UInt8 := dkwX0_lay_0 ++ dktX0_lay_1
theorem dksX0_lay_0 : cX0_lay.data.toList.drop 0 = dktX0_lay_0 := by decide +kernel
theorem dksX0_lay_1 : cX0_lay.data.toList.drop 23 = dktX0_lay_1 := dk_seg dksX0_lay_0 23 rfl rfl
theorem dksX0_lay_2 : cX0_lay.data.toList.drop 47 = dktX0_lay_2 := dk_seg dksX0_lay_1 24 rfl rfl
theorem dX0_lay_0 : decode cX0_lay 0 = .ok (.aload_n 0, 1) := dk_42 (dk_at dksX0_lay_0 0 rfl rfl)
theorem dX0_lay_1 : decode cX0_lay 1 = .ok (.invokevirtual 137, 3) := dk_182 0 137 (dk_at dksX0_lay_0 1 rfl rfl)
theorem dX0_lay_4 : decode cX0_lay 4 = .ok (.bipush (-4), 2) := dk_16 252 (dk_at dksX0_lay_0 4 rfl rfl)
theorem dX0_lay_6 : decode cX0_lay 6 = .ok (.if_icmp .ne 13, 3) := dk_160 0 13 (dk_at dksX0_lay_0 6 rfl rfl)
theorem dX0_lay_9 : decode cX0_lay 9 = .ok (.aload_n 0, 1) := dk_42 (dk_at dksX0_lay_0 9 rfl rfl)
theorem dX0_lay_10 : decode cX0_lay 10 = .ok (.getfield 28, 3) := dk_180 0 28 (dk_at dksX0_lay_0 10 rfl rfl)
theorem dX0_lay_13 : decode cX0_lay 13 = .ok (.getfield 140, 3) := dk_180 0 140 (dk_at dksX0_lay_0 13 rfl rfl)
theorem dX0_lay_16 : decode cX0_lay 16 = .ok (.ifCond .ne 6, 3) := dk_154 0 6 (dk_at dksX0_lay_0 16 rfl rfl)
theorem dX0_lay_19 : decode cX0_lay 19 = .ok (.bipush (-2), 2) := dk_16 254 (dk_at dksX0_lay_0 19 rfl rfl)
theorem dX0_lay_21 : decode cX0_lay 21 = .ok (.ireturn, 1) := dk_172 (dk_at dksX0_lay_0 21 rfl rfl)
theorem dX0_lay_22 : decode cX0_lay 22 = .ok (.aload_n 0, 1) := dk_42 (dk_at dksX0_lay_0 22 rfl rfl)
theorem dX0_lay_23 : decode cX0_lay 23 = .ok (.getfield 32, 3) := dk_180 0 32 (dk_at dksX0_lay_1 0 rfl rfl)
theorem dX0_lay_26 : decode cX0_lay 26 = .ok (.aload_n 0, 1) := dk_42 (dk_at dksX0_lay_1 3 rfl rfl)
theorem dX0_lay_27 : decode cX0_lay 27 = .ok (.getfield 28, 3) := dk_180 0 28 (dk_at dksX0_lay_1 4 rfl rfl)
theorem dX0_lay_30 : decode cX0_lay 30 = .ok (.invokevirtual 143, 3) := dk_182 0 143 (dk_at dksX0_lay_1 7 rfl rfl)
theorem dX0_lay_33 : decode cX0_lay 33 = .ok (.aload_n 0, 1) := dk_42 (dk_at dksX0_lay_1 10 rfl rfl)
theorem dX0_lay_34 : decode cX0_lay 34 = .ok (.iconst 0, 1) := dk_3 (dk_at dksX0_lay_1 11 rfl rfl)
theorem dX0_lay_35 : decode cX0_lay 35 = .ok (.putfield 147, 3) := dk_181 0 147 (dk_at dksX0_lay_1 12 rfl rfl)
theorem dX0_lay_38 : decode cX0_lay 38 = .ok (.aload_n 0, 1) := dk_42 (dk_at dksX0_lay_1 15 rfl rfl)
theorem dX0_lay_39 : decode cX0_lay 39 = .ok (.iconst 0, 1) := dk_3 (dk_at dksX0_lay_1 16 rfl rfl)
theorem dX0_lay_40 : decode cX0_lay 40 = .ok (.putfield 150, 3) := dk_181 0 150 (dk_at dksX0_lay_1 17 rfl rfl)
theorem dX0_lay_43 : decode cX0_lay 43 = .ok (.aload_n 0, 1) := dk_42 (dk_at dksX0_lay_1 20 rfl rfl)
theorem dX0_lay_44 : decode cX0_lay 44 = .ok (.getfield 32, 3) := dk_180 0 32 (dk_at dksX0_lay_1 21 rfl rfl)
theorem dX0_lay_47 : decode cX0_lay 47 = .ok (.invokevirtual 124, 3) := dk_182 0 124 (dk_at dksX0_lay_2 0 rfl rfl)
theorem dX0_lay_50 : decode cX0_lay 50 = .ok (.ireturn, 1) := dk_172 (dk_at dksX0_lay_2 3 rfl rfl)
abbrev cX0_readAll : ByteArray := prog_1_method_12_code
def yX0_readAll : MethodName := ⟨RX0, "readAll", "()I"⟩
def dkwX0_readAll_2 : List UInt8 := [172, 77, 27, 62, 42, 3, 181, 0, 97, 29, 172, 58, 4, 42, 3, 181, 0, 97, 25, 4, 191]
abbrev dktX0_readAll_2 : List UInt8 := dkwX0_readAll_2 ++ []
def dkwX0_readAll_1 : List UInt8 := [162, 0, 15, 42, 180, 0, 97, 60, 42, 182, 0, 134, 167, 255, 236, 16, 252, 61, 42, 3, 181, 0, 97, 28]
abbrev dktX0_readAll_1 : List UInt8 := dkwX0_readAll_1 ++ dktX0_readAll_2
def dkwX0_readAll_0 : List UInt8 := [3, 60, 42, 180, 0, 28, 182, 0, 131, 42, 3, 181, 0, 97, 42, 180, 0, 97, 42, 180, 0, 87]
abbrev dktX0_readAll_0 : List UInt8 := dkwX0_readAll_0 ++ dktX0_readAll_1
theorem dksX0_readAll_0 : cX0_readAll.data.toList.drop 0 = dktX0_readAll_0 := by decide +kernel
theorem dksX0_readAll_1 : cX0_readAll.data.toList.drop 22 = dktX0_readAll_1 := dk_seg dksX0_readAll_0 22 rfl rfl
theorem dksX0_readAll_2 : cX0_readAll.data.toList.drop 46 = dktX0_readAll_2 := dk_seg dksX0_readAll_1 24 rfl rfl
theorem dX0_readAll_0 : decode cX0_readAll 0 = .ok (.iconst 0, 1) := dk_3 (dk_at dksX0_readAll_0 0 rfl rfl)
theorem dX0_readAll_1 : decode cX0_readAll 1 = .ok (.istore_n 1, 1) := dk_60 (dk_at dksX0_readAll_0 1 rfl rfl)
theorem dX0_readAll_2 : decode cX0_readAll 2 = .ok (.aload_n 0, 1) := dk_42 (dk_at dksX0_readAll_0 2 rfl rfl)
theorem dX0_readAll_3 : decode cX0_readAll 3 = .ok (.getfield 28, 3) := dk_180 0 28 (dk_at dksX0_readAll_0 3 rfl rfl)
theorem dX0_readAll_6 : decode cX0_readAll 6 = .ok (.invokevirtual 131, 3) := dk_182 0 131 (dk_at dksX0_readAll_0 6 rfl rfl)
theorem dX0_readAll_9 : decode cX0_readAll 9 = .ok (.aload_n 0, 1) := dk_42 (dk_at dksX0_readAll_0 9 rfl rfl)
theorem dX0_readAll_10 : decode cX0_readAll 10 = .ok (.iconst 0, 1) := dk_3 (dk_at dksX0_readAll_0 10 rfl rfl)
theorem dX0_readAll_11 : decode cX0_readAll 11 = .ok (.putfield 97, 3) := dk_181 0 97 (dk_at dksX0_readAll_0 11 rfl rfl)
theorem dX0_readAll_14 : decode cX0_readAll 14 = .ok (.aload_n 0, 1) := dk_42 (dk_at dksX0_readAll_0 14 rfl rfl)
theorem dX0_readAll_15 : decode cX0_readAll 15 = .ok (.getfield 97, 3) := dk_180 0 97 (dk_at dksX0_readAll_0 15 rfl rfl)
theorem dX0_readAll_18 : decode cX0_readAll 18 = .ok (.aload_n 0, 1) := dk_42 (dk_at dksX0_readAll_0 18 rfl rfl)
theorem dX0_readAll_19 : decode cX0_readAll 19 = .ok (.getfield 87, 3) := dk_180 0 87 (dk_at dksX0_readAll_0 19 rfl rfl)
theorem dX0_readAll_22 : decode cX0_readAll 22 = .ok (.if_icmp .ge 15, 3) := dk_162 0 15 (dk_at dksX0_readAll_1 0 rfl rfl)
theorem dX0_readAll_25 : decode cX0_readAll 25 = .ok (.aload_n 0, 1) := dk_42 (dk_at dksX0_readAll_1 3 rfl rfl)
theorem dX0_readAll_26 : decode cX0_readAll 26 = .ok (.getfield 97, 3) := dk_180 0 97 (dk_at dksX0_readAll_1 4 rfl rfl)
theorem dX0_readAll_29 : decode cX0_readAll 29 = .ok (.istore_n 1, 1) := dk_60 (dk_at dksX0_readAll_1 7 rfl rfl)
theorem dX0_readAll_30 : decode cX0_readAll 30 = .ok (.aload_n 0, 1) := dk_42 (dk_at dksX0_readAll_1 8 rfl rfl)
theorem dX0_readAll_31 : decode cX0_readAll 31 = .ok (.invokevirtual 134, 3) := dk_182 0 134 (dk_at dksX0_readAll_1 9 rfl rfl)
theorem dX0_readAll_34 : decode cX0_readAll 34 = .ok (.goto (-20), 3) := dk_167 255 236 (dk_at dksX0_readAll_1 12 rfl rfl)
theorem dX0_readAll_37 : decode cX0_readAll 37 = .ok (.bipush (-4), 2) := dk_16 252 (dk_at dksX0_readAll_1 15 rfl rfl)
theorem dX0_readAll_39 : decode cX0_readAll 39 = .ok (.istore_n 2, 1) := dk_61 (dk_at dksX0_readAll_1 17 rfl rfl)
theorem dX0_readAll_40 : decode cX0_readAll 40 = .ok (.aload_n 0, 1) := dk_42 (dk_at dksX0_readAll_1 18 rfl rfl)
theorem dX0_readAll_41 : decode cX0_readAll 41 = .ok (.iconst 0, 1) := dk_3 (dk_at dksX0_readAll_1 19 rfl rfl)
theorem dX0_readAll_42 : decode cX0_readAll 42 = .ok (.putfield 97, 3) := dk_181 0 97 (dk_at dksX0_readAll_1 20 rfl rfl)
theorem dX0_readAll_45 : decode cX0_readAll 45 = .ok (.iload_n 2, 1) := dk_28 (dk_at dksX0_readAll_1 23 rfl rfl)
theorem dX0_readAll_46 : decode cX0_readAll 46 = .ok (.ireturn, 1) := dk_172 (dk_at dksX0_readAll_2 0 rfl rfl)
theorem dX0_readAll_47 : decode cX0_readAll 47 = .ok (.astore_n 2, 1) := dk_77 (dk_at dksX0_readAll_2 1 rfl rfl)
theorem dX0_readAll_48 : decode cX0_readAll 48 = .ok (.iload_n 1, 1) := dk_27 (dk_at dksX0_readAll_2 2 rfl rfl)
theorem dX0_readAll_49 : decode cX0_readAll 49 = .ok (.istore_n 3, 1) := dk_62 (dk_at dksX0_readAll_2 3 rfl rfl)
theorem dX0_readAll_50 : decode cX0_readAll 50 = .ok (.aload_n 0, 1) := dk_42 (dk_at dksX0_readAll_2 4 rfl rfl)
theorem dX0_readAll_51 : decode cX0_readAll 51 = .ok (.iconst 0, 1) := dk_3 (dk_at dksX0_readAll_2 5 rfl rfl)
theorem dX0_readAll_52 : decode cX0_readAll 52 = .ok (.putfield 97, 3) := dk_181 0 97 (dk_at dksX0_readAll_2 6 rfl rfl)
theorem dX0_readAll_55 : decode cX0_readAll 55 = .ok (.iload_n 3, 1) := dk_29 (dk_at dksX0_readAll_2 9 rfl rfl)
theorem dX0_readAll_56 : decode cX0_readAll 56 = .ok (.ireturn, 1) := dk_172 (dk_at dksX0_readAll_2 10 rfl rfl)
theorem dX0_readAll_57 : decode cX0_readAll 57 = .ok (.astore 4, 2) := dk_58 4 (dk_at dksX0_readAll_2 11 rfl rfl)
theorem dX0_readAll_59 : decode cX0_readAll 59 = .ok (.aload_n 0, 1) := dk_42 (dk_at dksX0_readAll_2 13 rfl rfl)
theorem dX0_readAll_60 : decode cX0_readAll 60 = .ok (.iconst 0, 1) := dk_3 (dk_at dksX0_readAll_2 14 rfl rfl)
theorem dX0_readAll_61 : decode cX0_readAll 61 = .ok (.putfield 97, 3) := dk_181 0 97 (dk_at dksX0_readAll_2 15 rfl rfl)
theorem dX0_readAll_64 : decode cX0_readAll 64 = .ok (.aload 4, 2) := dk_25 4 (dk_at dksX0_readAll_2 18 rfl rfl)
theorem dX0_readAll_66 : decode cX0_readAll 66 = .ok (.athrow, 1) := dk_191 (dk_at dksX0_readAll_2 20 rfl rfl)
abbrev cX0_item : ByteArray := prog_1_method_11_code
def yX0_item : MethodName := ⟨RX0, "item", "()V"⟩
def dkwX0_item_4 : List UInt8 := [180, 0, 28, 27, 28, 29, 21, 4, 182, 0, 127, 87, 177]
abbrev dktX0_item_4 : List UInt8 := dkwX0_item_4 ++ []
def dkwX0_item_3 : List UInt8 := [54, 4, 42, 42, 180, 0, 28, 182, 0, 124, 16, 12, 162, 0, 7, 4, 167, 0, 4, 3, 182, 0, 116, 42]
abbrev dktX0_item_3 : List UInt8 := dkwX0_item_3 ++ dktX0_item_4
def dkwX0_item_2 : List UInt8 := [182, 0, 120, 61, 42, 3, 16, 99, 16, 44, 182, 0, 120, 62, 42, 4, 16, 9, 16, 59, 182, 0, 120]
abbrev dktX0_item_2 : List UInt8 := dkwX0_item_2 ++ dktX0_item_3
def dkwX0_item_1 : List UInt8 := [180, 0, 97, 4, 96, 181, 0, 97, 42, 3, 6, 16, 44, 182, 0, 120, 60, 42, 3, 16, 99, 16, 44]
abbrev dktX0_item_1 : List UInt8 := dkwX0_item_1 ++ dktX0_item_2
def dkwX0_item_0 : List UInt8 := [42, 42, 42, 180, 0, 97, 182, 0, 100, 16, 106, 160, 0, 7, 4, 167, 0, 4, 3, 182, 0, 116, 42, 89]
abbrev dktX0_item_0 : List UInt8 := dkwX0_item_0 ++ dktX0_item_1
theorem dksX0_item_0 : cX0_item.data.toList.drop 0 = dktX0_item_0 := by decide +kernel
theorem dksX0_item_1 : cX0_item.data.toList.drop 24 = dktX0_item_1 := dk_seg dksX0_item_0 24 rfl rfl
theorem dksX0_item_2 : cX0_item.data.toList.drop 47 = dktX0_item_2 := dk_seg dksX0_item_1 23 rfl rfl
theorem dksX0_item_3 : cX0_item.data.toList.drop 70 = dktX0_item_3 := dk_seg dksX0_item_2 23 rfl rfl
theorem dksX0_item_4 : cX0_item.data.toList.drop 94 = dktX0_item_4 := dk_seg dksX0_item_3 24 rfl rfl
theorem dX0_item_0 : decode cX0_item 0 = .ok (.aload_n 0, 1) := dk_42 (dk_at dksX0_item_0 0 rfl rfl)
theorem dX0_item_1 : decode cX0_item 1 = .ok (.aload_n 0, 1) := dk_42 (dk_at dksX0_item_0 1 rfl rfl)
theorem dX0_item_2 : decode cX0_item 2 = .ok (.aload_n 0, 1) := dk_42 (dk_at dksX0_item_0 2 rfl rfl)
theorem dX0_item_3 : decode cX0_item 3 = .ok (.getfield 97, 3) := dk_180 0 97 (dk_at dksX0_item_0 3 rfl rfl)
theorem dX0_item_6 : decode cX0_item 6 = .ok (.invokevirtual 100, 3) := dk_182 0 100 (dk_at dksX0_item_0 6 rfl rfl)
theorem dX0_item_9 : decode cX0_item 9 = .ok (.bipush 106, 2) := dk_16 106 (dk_at dksX0_item_0 9 rfl rfl)
theorem dX0_item_11 : decode cX0_item 11 = .ok (.if_icmp .ne 7, 3) := dk_160 0 7 (dk_at dksX0_item_0 11 rfl rfl)
theorem dX0_item_14 : decode cX0_item 14 = .ok (.iconst 1, 1) := dk_4 (dk_at dksX0_item_0 14 rfl rfl)
theorem dX0_item_15 : decode cX0_item 15 = .ok (.goto 4, 3) := dk_167 0 4 (dk_at dksX0_item_0 15 rfl rfl)
theorem dX0_item_18 : decode cX0_item 18 = .ok (.iconst 0, 1) := dk_3 (dk_at dksX0_item_0 18 rfl rfl)
theorem dX0_item_19 : decode cX0_item 19 = .ok (.invokevirtual 116, 3) := dk_182 0 116 (dk_at dksX0_item_0 19 rfl rfl)
theorem dX0_item_22 : decode cX0_item 22 = .ok (.aload_n 0, 1) := dk_42 (dk_at dksX0_item_0 22 rfl rfl)
theorem dX0_item_23 : decode cX0_item 23 = .ok (.dup, 1) := dk_89 (dk_at dksX0_item_0 23 rfl rfl)
theorem dX0_item_24 : decode cX0_item 24 = .ok (.getfield 97, 3) := dk_180 0 97 (dk_at dksX0_item_1 0 rfl rfl)
theorem dX0_item_27 : decode cX0_item 27 = .ok (.iconst 1, 1) := dk_4 (dk_at dksX0_item_1 3 rfl rfl)
theorem dX0_item_28 : decode cX0_item 28 = .ok (.iadd, 1) := dk_96 (dk_at dksX0_item_1 4 rfl rfl)
theorem dX0_item_29 : decode cX0_item 29 = .ok (.putfield 97, 3) := dk_181 0 97 (dk_at dksX0_item_1 5 rfl rfl)
theorem dX0_item_32 : decode cX0_item 32 = .ok (.aload_n 0, 1) := dk_42 (dk_at dksX0_item_1 8 rfl rfl)
theorem dX0_item_33 : decode cX0_item 33 = .ok (.iconst 0, 1) := dk_3 (dk_at dksX0_item_1 9 rfl rfl)
theorem dX0_item_34 : decode cX0_item 34 = .ok (.iconst 3, 1) := dk_6 (dk_at dksX0_item_1 10 rfl rfl)
theorem dX0_item_35 : decode cX0_item 35 = .ok (.bipush 44, 2) := dk_16 44 (dk_at dksX0_item_1 11 rfl rfl)
theorem dX0_item_37 : decode cX0_item 37 = .ok (.invokevirtual 120, 3) := dk_182 0 120 (dk_at dksX0_item_1 13 rfl rfl)
theorem dX0_item_40 : decode cX0_item 40 = .ok (.istore_n 1, 1) := dk_60 (dk_at dksX0_item_1 16 rfl rfl)
theorem dX0_item_41 : decode cX0_item 41 = .ok (.aload_n 0, 1) := dk_42 (dk_at dksX0_item_1 17 rfl rfl)
theorem dX0_item_42 : decode cX0_item 42 = .ok (.iconst 0, 1) := dk_3 (dk_at dksX0_item_1 18 rfl rfl)
theorem dX0_item_43 : decode cX0_item 43 = .ok (.bipush 99, 2) := dk_16 99 (dk_at dksX0_item_1 19 rfl rfl)
theorem dX0_item_45 : decode cX0_item 45 = .ok (.bipush 44, 2) := dk_16 44 (dk_at dksX0_item_1 21 rfl rfl)
theorem dX0_item_47 : decode cX0_item 47 = .ok (.invokevirtual 120, 3) := dk_182 0 120 (dk_at dksX0_item_2 0 rfl rfl)
theorem dX0_item_50 : decode cX0_item 50 = .ok (.istore_n 2, 1) := dk_61 (dk_at dksX0_item_2 3 rfl rfl)
theorem dX0_item_51 : decode cX0_item 51 = .ok (.aload_n 0, 1) := dk_42 (dk_at dksX0_item_2 4 rfl rfl)
theorem dX0_item_52 : decode cX0_item 52 = .ok (.iconst 0, 1) := dk_3 (dk_at dksX0_item_2 5 rfl rfl)
theorem dX0_item_53 : decode cX0_item 53 = .ok (.bipush 99, 2) := dk_16 99 (dk_at dksX0_item_2 6 rfl rfl)
theorem dX0_item_55 : decode cX0_item 55 = .ok (.bipush 44, 2) := dk_16 44 (dk_at dksX0_item_2 8 rfl rfl)
theorem dX0_item_57 : decode cX0_item 57 = .ok (.invokevirtual 120, 3) := dk_182 0 120 (dk_at dksX0_item_2 10 rfl rfl)
theorem dX0_item_60 : decode cX0_item 60 = .ok (.istore_n 3, 1) := dk_62 (dk_at dksX0_item_2 13 rfl rfl)
theorem dX0_item_61 : decode cX0_item 61 = .ok (.aload_n 0, 1) := dk_42 (dk_at dksX0_item_2 14 rfl rfl)
theorem dX0_item_62 : decode cX0_item 62 = .ok (.iconst 1, 1) := dk_4 (dk_at dksX0_item_2 15 rfl rfl)
theorem dX0_item_63 : decode cX0_item 63 = .ok (.bipush 9, 2) := dk_16 9 (dk_at dksX0_item_2 16 rfl rfl)
theorem dX0_item_65 : decode cX0_item 65 = .ok (.bipush 59, 2) := dk_16 59 (dk_at dksX0_item_2 18 rfl rfl)
theorem dX0_item_67 : decode cX0_item 67 = .ok (.invokevirtual 120, 3) := dk_182 0 120 (dk_at dksX0_item_2 20 rfl rfl)
theorem dX0_item_70 : decode cX0_item 70 = .ok (.istore 4, 2) := dk_54 4 (dk_at dksX0_item_3 0 rfl rfl)
theorem dX0_item_72 : decode cX0_item 72 = .ok (.aload_n 0, 1) := dk_42 (dk_at dksX0_item_3 2 rfl rfl)
theorem dX0_item_73 : decode cX0_item 73 = .ok (.aload_n 0, 1) := dk_42 (dk_at dksX0_item_3 3 rfl rfl)
theorem dX0_item_74 : decode cX0_item 74 = .ok (.getfield 28, 3) := dk_180 0 28 (dk_at dksX0_item_3 4 rfl rfl)
theorem dX0_item_77 : decode cX0_item 77 = .ok (.invokevirtual 124, 3) := dk_182 0 124 (dk_at dksX0_item_3 7 rfl rfl)
theorem dX0_item_80 : decode cX0_item 80 = .ok (.bipush 12, 2) := dk_16 12 (dk_at dksX0_item_3 10 rfl rfl)
theorem dX0_item_82 : decode cX0_item 82 = .ok (.if_icmp .ge 7, 3) := dk_162 0 7 (dk_at dksX0_item_3 12 rfl rfl)
theorem dX0_item_85 : decode cX0_item 85 = .ok (.iconst 1, 1) := dk_4 (dk_at dksX0_item_3 15 rfl rfl)
theorem dX0_item_86 : decode cX0_item 86 = .ok (.goto 4, 3) := dk_167 0 4 (dk_at dksX0_item_3 16 rfl rfl)
theorem dX0_item_89 : decode cX0_item 89 = .ok (.iconst 0, 1) := dk_3 (dk_at dksX0_item_3 19 rfl rfl)
theorem dX0_item_90 : decode cX0_item 90 = .ok (.invokevirtual 116, 3) := dk_182 0 116 (dk_at dksX0_item_3 20 rfl rfl)
theorem dX0_item_93 : decode cX0_item 93 = .ok (.aload_n 0, 1) := dk_42 (dk_at dksX0_item_3 23 rfl rfl)
theorem dX0_item_94 : decode cX0_item 94 = .ok (.getfield 28, 3) := dk_180 0 28 (dk_at dksX0_item_4 0 rfl rfl)
theorem dX0_item_97 : decode cX0_item 97 = .ok (.iload_n 1, 1) := dk_27 (dk_at dksX0_item_4 3 rfl rfl)
theorem dX0_item_98 : decode cX0_item 98 = .ok (.iload_n 2, 1) := dk_28 (dk_at dksX0_item_4 4 rfl rfl)
theorem dX0_item_99 : decode cX0_item 99 = .ok (.iload_n 3, 1) := dk_29 (dk_at dksX0_item_4 5 rfl rfl)
theorem dX0_item_100 : decode cX0_item 100 = .ok (.iload 4, 2) := dk_21 4 (dk_at dksX0_item_4 6 rfl rfl)
theorem dX0_item_102 : decode cX0_item 102 = .ok (.invokevirtual 127, 3) := dk_182 0 127 (dk_at dksX0_item_4 8 rfl rfl)
theorem dX0_item_105 : decode cX0_item 105 = .ok (.pop, 1) := dk_87 (dk_at dksX0_item_4 11 rfl rfl)
theorem dX0_item_106 : decode cX0_item 106 = .ok (.return_, 1) := dk_177 (dk_at dksX0_item_4 12 rfl rfl)
abbrev cX0_letterAt : ByteArray := prog_1_method_7_code
def yX0_letterAt : MethodName := ⟨RX0, "letterAt", "(I)I"⟩
def dkwX0_letterAt_0 : List UInt8 := [27, 42, 180, 0, 87, 162, 0, 12, 42, 180, 0, 45, 27, 51, 167, 0, 4, 3, 172]
abbrev dktX0_letterAt_0 : List UInt8 := dkwX0_letterAt_0 ++ []
theorem dksX0_letterAt_0 : cX0_letterAt.data.toList.drop 0 = dktX0_letterAt_0 := by decide +kernel
theorem dX0_letterAt_0 : decode cX0_letterAt 0 = .ok (.iload_n 1, 1) := dk_27 (dk_at dksX0_letterAt_0 0 rfl rfl)
theorem dX0_letterAt_1 : decode cX0_letterAt 1 = .ok (.aload_n 0, 1) := dk_42 (dk_at dksX0_letterAt_0 1 rfl rfl)
theorem dX0_letterAt_2 : decode cX0_letterAt 2 = .ok (.getfield 87, 3) := dk_180 0 87 (dk_at dksX0_letterAt_0 2 rfl rfl)
theorem dX0_letterAt_5 : decode cX0_letterAt 5 = .ok (.if_icmp .ge 12, 3) := dk_162 0 12 (dk_at dksX0_letterAt_0 5 rfl rfl)
theorem dX0_letterAt_8 : decode cX0_letterAt 8 = .ok (.aload_n 0, 1) := dk_42 (dk_at dksX0_letterAt_0 8 rfl rfl)
theorem dX0_letterAt_9 : decode cX0_letterAt 9 = .ok (.getfield 45, 3) := dk_180 0 45 (dk_at dksX0_letterAt_0 9 rfl rfl)
theorem dX0_letterAt_12 : decode cX0_letterAt 12 = .ok (.iload_n 1, 1) := dk_27 (dk_at dksX0_letterAt_0 12 rfl rfl)
theorem dX0_letterAt_13 : decode cX0_letterAt 13 = .ok (.baload, 1) := dk_51 (dk_at dksX0_letterAt_0 13 rfl rfl)
theorem dX0_letterAt_14 : decode cX0_letterAt 14 = .ok (.goto 4, 3) := dk_167 0 4 (dk_at dksX0_letterAt_0 14 rfl rfl)
theorem dX0_letterAt_17 : decode cX0_letterAt 17 = .ok (.iconst 0, 1) := dk_3 (dk_at dksX0_letterAt_0 17 rfl rfl)
theorem dX0_letterAt_18 : decode cX0_letterAt 18 = .ok (.ireturn, 1) := dk_172 (dk_at dksX0_letterAt_0 18 rfl rfl)
abbrev cX0_expect : ByteArray := prog_1_method_9_code
def yX0_expect : MethodName := ⟨RX0, "expect", "(Z)V"⟩
def dkwX0_expect_0 : List UInt8 := [27, 154, 0, 11, 187, 0, 107, 89, 183, 0, 109, 191, 177]
abbrev dktX0_expect_0 : List UInt8 := dkwX0_expect_0 ++ []
theorem dksX0_expect_0 : cX0_expect.data.toList.drop 0 = dktX0_expect_0 := by decide +kernel
theorem dX0_expect_0 : decode cX0_expect 0 = .ok (.iload_n 1, 1) := dk_27 (dk_at dksX0_expect_0 0 rfl rfl)
theorem dX0_expect_1 : decode cX0_expect 1 = .ok (.ifCond .ne 11, 3) := dk_154 0 11 (dk_at dksX0_expect_0 1 rfl rfl)
theorem dX0_expect_4 : decode cX0_expect 4 = .ok (.new 107, 3) := dk_187 0 107 (dk_at dksX0_expect_0 4 rfl rfl)
theorem dX0_expect_7 : decode cX0_expect 7 = .ok (.dup, 1) := dk_89 (dk_at dksX0_expect_0 7 rfl rfl)
theorem dX0_expect_8 : decode cX0_expect 8 = .ok (.invokespecial 109, 3) := dk_183 0 109 (dk_at dksX0_expect_0 8 rfl rfl)
theorem dX0_expect_11 : decode cX0_expect 11 = .ok (.athrow, 1) := dk_191 (dk_at dksX0_expect_0 11 rfl rfl)
theorem dX0_expect_12 : decode cX0_expect 12 = .ok (.return_, 1) := dk_177 (dk_at dksX0_expect_0 12 rfl rfl)
abbrev cX0_number : ByteArray := prog_1_method_10_code
def yX0_number : MethodName := ⟨RX0, "number", "(III)I"⟩
def dkwX0_number_4 : List UInt8 := [167, 0, 4, 3, 182, 0, 116, 42, 89, 180, 0, 97, 4, 96, 181, 0, 97, 21, 5, 172]
abbrev dktX0_number_4 : List UInt8 := dkwX0_number_4 ++ []
def dkwX0_number_3 : List UInt8 := [133, 28, 133, 184, 0, 93, 153, 0, 19, 42, 42, 180, 0, 97, 182, 0, 100, 29, 160, 0, 7, 4]
abbrev dktX0_number_3 : List UInt8 := dkwX0_number_3 ++ dktX0_number_4
def dkwX0_number_2 : List UInt8 := [181, 0, 97, 167, 255, 211, 42, 21, 4, 133, 10, 20, 0, 114, 184, 0, 93, 153, 0, 32, 21, 5, 133, 27]
abbrev dktX0_number_2 : List UInt8 := dkwX0_number_2 ++ dktX0_number_3
def dkwX0_number_1 : List UInt8 := [42, 42, 180, 0, 97, 182, 0, 100, 96, 16, 48, 100, 54, 5, 132, 4, 1, 42, 89, 180, 0, 97, 4, 96]
abbrev dktX0_number_1 : List UInt8 := dkwX0_number_1 ++ dktX0_number_2
def dkwX0_number_0 : List UInt8 := [3, 54, 4, 3, 54, 5, 42, 182, 0, 110, 153, 0, 44, 21, 4, 6, 162, 0, 38, 16, 10, 21, 5, 104]
abbrev dktX0_number_0 : List UInt8 := dkwX0_number_0 ++ dktX0_number_1
theorem dksX0_number_0 : cX0_number.data.toList.drop 0 = dktX0_number_0 := by decide +kernel
theorem dksX0_number_1 : cX0_number.data.toList.drop 24 = dktX0_number_1 := dk_seg dksX0_number_0 24 rfl rfl
theorem dksX0_number_2 : cX0_number.data.toList.drop 48 = dktX0_number_2 := dk_seg dksX0_number_1 24 rfl rfl
theorem dksX0_number_3 : cX0_number.data.toList.drop 72 = dktX0_number_3 := dk_seg dksX0_number_2 24 rfl rfl
theorem dksX0_number_4 : cX0_number.data.toList.drop 94 = dktX0_number_4 := dk_seg dksX0_number_3 22 rfl rfl
theorem dX0_number_0 : decode cX0_number 0 = .ok (.iconst 0, 1) := dk_3 (dk_at dksX0_number_0 0 rfl rfl)
theorem dX0_number_1 : decode cX0_number 1 = .ok (.istore 4, 2) := dk_54 4 (dk_at dksX0_number_0 1 rfl rfl)
theorem dX0_number_3 : decode cX0_number 3 = .ok (.iconst 0, 1) := dk_3 (dk_at dksX0_number_0 3 rfl rfl)
theorem dX0_number_4 : decode cX0_number 4 = .ok (.istore 5, 2) := dk_54 5 (dk_at dksX0_number_0 4 rfl rfl)
theorem dX0_number_6 : decode cX0_number 6 = .ok (.aload_n 0, 1) := dk_42 (dk_at dksX0_number_0 6 rfl rfl)
theorem dX0_number_7 : decode cX0_number 7 = .ok (.invokevirtual 110, 3) := dk_182 0 110 (dk_at dksX0_number_0 7 rfl rfl)
theorem dX0_number_10 : decode cX0_number 10 = .ok (.ifCond .eq 44, 3) := dk_153 0 44 (dk_at dksX0_number_0 10 rfl rfl)
theorem dX0_number_13 : decode cX0_number 13 = .ok (.iload 4, 2) := dk_21 4 (dk_at dksX0_number_0 13 rfl rfl)
theorem dX0_number_15 : decode cX0_number 15 = .ok (.iconst 3, 1) := dk_6 (dk_at dksX0_number_0 15 rfl rfl)
theorem dX0_number_16 : decode cX0_number 16 = .ok (.if_icmp .ge 38, 3) := dk_162 0 38 (dk_at dksX0_number_0 16 rfl rfl)
theorem dX0_number_19 : decode cX0_number 19 = .ok (.bipush 10, 2) := dk_16 10 (dk_at dksX0_number_0 19 rfl rfl)
theorem dX0_number_21 : decode cX0_number 21 = .ok (.iload 5, 2) := dk_21 5 (dk_at dksX0_number_0 21 rfl rfl)
theorem dX0_number_23 : decode cX0_number 23 = .ok (.imul, 1) := dk_104 (dk_at dksX0_number_0 23 rfl rfl)
theorem dX0_number_24 : decode cX0_number 24 = .ok (.aload_n 0, 1) := dk_42 (dk_at dksX0_number_1 0 rfl rfl)
theorem dX0_number_25 : decode cX0_number 25 = .ok (.aload_n 0, 1) := dk_42 (dk_at dksX0_number_1 1 rfl rfl)
theorem dX0_number_26 : decode cX0_number 26 = .ok (.getfield 97, 3) := dk_180 0 97 (dk_at dksX0_number_1 2 rfl rfl)
theorem dX0_number_29 : decode cX0_number 29 = .ok (.invokevirtual 100, 3) := dk_182 0 100 (dk_at dksX0_number_1 5 rfl rfl)
theorem dX0_number_32 : decode cX0_number 32 = .ok (.iadd, 1) := dk_96 (dk_at dksX0_number_1 8 rfl rfl)
theorem dX0_number_33 : decode cX0_number 33 = .ok (.bipush 48, 2) := dk_16 48 (dk_at dksX0_number_1 9 rfl rfl)
theorem dX0_number_35 : decode cX0_number 35 = .ok (.isub, 1) := dk_100 (dk_at dksX0_number_1 11 rfl rfl)
theorem dX0_number_36 : decode cX0_number 36 = .ok (.istore 5, 2) := dk_54 5 (dk_at dksX0_number_1 12 rfl rfl)
theorem dX0_number_38 : decode cX0_number 38 = .ok (.iinc 4 1, 3) := dk_132 4 1 (dk_at dksX0_number_1 14 rfl rfl)
theorem dX0_number_41 : decode cX0_number 41 = .ok (.aload_n 0, 1) := dk_42 (dk_at dksX0_number_1 17 rfl rfl)
theorem dX0_number_42 : decode cX0_number 42 = .ok (.dup, 1) := dk_89 (dk_at dksX0_number_1 18 rfl rfl)
theorem dX0_number_43 : decode cX0_number 43 = .ok (.getfield 97, 3) := dk_180 0 97 (dk_at dksX0_number_1 19 rfl rfl)
theorem dX0_number_46 : decode cX0_number 46 = .ok (.iconst 1, 1) := dk_4 (dk_at dksX0_number_1 22 rfl rfl)
theorem dX0_number_47 : decode cX0_number 47 = .ok (.iadd, 1) := dk_96 (dk_at dksX0_number_1 23 rfl rfl)
theorem dX0_number_48 : decode cX0_number 48 = .ok (.putfield 97, 3) := dk_181 0 97 (dk_at dksX0_number_2 0 rfl rfl)
theorem dX0_number_51 : decode cX0_number 51 = .ok (.goto (-45), 3) := dk_167 255 211 (dk_at dksX0_number_2 3 rfl rfl)
theorem dX0_number_54 : decode cX0_number 54 = .ok (.aload_n 0, 1) := dk_42 (dk_at dksX0_number_2 6 rfl rfl)
theorem dX0_number_55 : decode cX0_number 55 = .ok (.iload 4, 2) := dk_21 4 (dk_at dksX0_number_2 7 rfl rfl)
theorem dX0_number_57 : decode cX0_number 57 = .ok (.i2l, 1) := dk_133 (dk_at dksX0_number_2 9 rfl rfl)
theorem dX0_number_58 : decode cX0_number 58 = .ok (.lconst 1, 1) := dk_10 (dk_at dksX0_number_2 10 rfl rfl)
theorem dX0_number_59 : decode cX0_number 59 = .ok (.ldc2_w 114, 3) := dk_20 0 114 (dk_at dksX0_number_2 11 rfl rfl)
theorem dX0_number_62 : decode cX0_number 62 = .ok (.invokestatic 93, 3) := dk_184 0 93 (dk_at dksX0_number_2 14 rfl rfl)
theorem dX0_number_65 : decode cX0_number 65 = .ok (.ifCond .eq 32, 3) := dk_153 0 32 (dk_at dksX0_number_2 17 rfl rfl)
theorem dX0_number_68 : decode cX0_number 68 = .ok (.iload 5, 2) := dk_21 5 (dk_at dksX0_number_2 20 rfl rfl)
theorem dX0_number_70 : decode cX0_number 70 = .ok (.i2l, 1) := dk_133 (dk_at dksX0_number_2 22 rfl rfl)
theorem dX0_number_71 : decode cX0_number 71 = .ok (.iload_n 1, 1) := dk_27 (dk_at dksX0_number_2 23 rfl rfl)
theorem dX0_number_72 : decode cX0_number 72 = .ok (.i2l, 1) := dk_133 (dk_at dksX0_number_3 0 rfl rfl)
theorem dX0_number_73 : decode cX0_number 73 = .ok (.iload_n 2, 1) := dk_28 (dk_at dksX0_number_3 1 rfl rfl)
theorem dX0_number_74 : decode cX0_number 74 = .ok (.i2l, 1) := dk_133 (dk_at dksX0_number_3 2 rfl rfl)
theorem dX0_number_75 : decode cX0_number 75 = .ok (.invokestatic 93, 3) := dk_184 0 93 (dk_at dksX0_number_3 3 rfl rfl)
theorem dX0_number_78 : decode cX0_number 78 = .ok (.ifCond .eq 19, 3) := dk_153 0 19 (dk_at dksX0_number_3 6 rfl rfl)
theorem dX0_number_81 : decode cX0_number 81 = .ok (.aload_n 0, 1) := dk_42 (dk_at dksX0_number_3 9 rfl rfl)
theorem dX0_number_82 : decode cX0_number 82 = .ok (.aload_n 0, 1) := dk_42 (dk_at dksX0_number_3 10 rfl rfl)
theorem dX0_number_83 : decode cX0_number 83 = .ok (.getfield 97, 3) := dk_180 0 97 (dk_at dksX0_number_3 11 rfl rfl)
theorem dX0_number_86 : decode cX0_number 86 = .ok (.invokevirtual 100, 3) := dk_182 0 100 (dk_at dksX0_number_3 14 rfl rfl)
theorem dX0_number_89 : decode cX0_number 89 = .ok (.iload_n 3, 1) := dk_29 (dk_at dksX0_number_3 17 rfl rfl)
theorem dX0_number_90 : decode cX0_number 90 = .ok (.if_icmp .ne 7, 3) := dk_160 0 7 (dk_at dksX0_number_3 18 rfl rfl)
theorem dX0_number_93 : decode cX0_number 93 = .ok (.iconst 1, 1) := dk_4 (dk_at dksX0_number_3 21 rfl rfl)
theorem dX0_number_94 : decode cX0_number 94 = .ok (.goto 4, 3) := dk_167 0 4 (dk_at dksX0_number_4 0 rfl rfl)
theorem dX0_number_97 : decode cX0_number 97 = .ok (.iconst 0, 1) := dk_3 (dk_at dksX0_number_4 3 rfl rfl)
theorem dX0_number_98 : decode cX0_number 98 = .ok (.invokevirtual 116, 3) := dk_182 0 116 (dk_at dksX0_number_4 4 rfl rfl)
theorem dX0_number_101 : decode cX0_number 101 = .ok (.aload_n 0, 1) := dk_42 (dk_at dksX0_number_4 7 rfl rfl)
theorem dX0_number_102 : decode cX0_number 102 = .ok (.dup, 1) := dk_89 (dk_at dksX0_number_4 8 rfl rfl)
theorem dX0_number_103 : decode cX0_number 103 = .ok (.getfield 97, 3) := dk_180 0 97 (dk_at dksX0_number_4 9 rfl rfl)
theorem dX0_number_106 : decode cX0_number 106 = .ok (.iconst 1, 1) := dk_4 (dk_at dksX0_number_4 12 rfl rfl)
theorem dX0_number_107 : decode cX0_number 107 = .ok (.iadd, 1) := dk_96 (dk_at dksX0_number_4 13 rfl rfl)
theorem dX0_number_108 : decode cX0_number 108 = .ok (.putfield 97, 3) := dk_181 0 97 (dk_at dksX0_number_4 14 rfl rfl)
theorem dX0_number_111 : decode cX0_number 111 = .ok (.iload 5, 2) := dk_21 5 (dk_at dksX0_number_4 17 rfl rfl)
theorem dX0_number_113 : decode cX0_number 113 = .ok (.ireturn, 1) := dk_172 (dk_at dksX0_number_4 19 rfl rfl)
abbrev cX0_isFigure : ByteArray := prog_1_method_8_code
def yX0_isFigure : MethodName := ⟨RX0, "isFigure", "()Z"⟩
def dkwX0_isFigure_0 : List UInt8 := [42, 42, 180, 0, 97, 182, 0, 100, 133, 20, 0, 103, 20, 0, 105, 184, 0, 93, 172]
abbrev dktX0_isFigure_0 : List UInt8 := dkwX0_isFigure_0 ++ []
theorem dksX0_isFigure_0 : cX0_isFigure.data.toList.drop 0 = dktX0_isFigure_0 := by decide +kernel
theorem dX0_isFigure_0 : decode cX0_isFigure 0 = .ok (.aload_n 0, 1) := dk_42 (dk_at dksX0_isFigure_0 0 rfl rfl)
theorem dX0_isFigure_1 : decode cX0_isFigure 1 = .ok (.aload_n 0, 1) := dk_42 (dk_at dksX0_isFigure_0 1 rfl rfl)
theorem dX0_isFigure_2 : decode cX0_isFigure 2 = .ok (.getfield 97, 3) := dk_180 0 97 (dk_at dksX0_isFigure_0 2 rfl rfl)
theorem dX0_isFigure_5 : decode cX0_isFigure 5 = .ok (.invokevirtual 100, 3) := dk_182 0 100 (dk_at dksX0_isFigure_0 5 rfl rfl)
theorem dX0_isFigure_8 : decode cX0_isFigure 8 = .ok (.i2l, 1) := dk_133 (dk_at dksX0_isFigure_0 8 rfl rfl)
theorem dX0_isFigure_9 : decode cX0_isFigure 9 = .ok (.ldc2_w 103, 3) := dk_20 0 103 (dk_at dksX0_isFigure_0 9 rfl rfl)
theorem dX0_isFigure_12 : decode cX0_isFigure 12 = .ok (.ldc2_w 105, 3) := dk_20 0 105 (dk_at dksX0_isFigure_0 12 rfl rfl)
theorem dX0_isFigure_15 : decode cX0_isFigure 15 = .ok (.invokestatic 93, 3) := dk_184 0 93 (dk_at dksX0_isFigure_0 15 rfl rfl)
theorem dX0_isFigure_18 : decode cX0_isFigure 18 = .ok (.ireturn, 1) := dk_172 (dk_at dksX0_isFigure_0 18 rfl rfl)
abbrev cX0_wipe : ByteArray := prog_1_method_6_code
def yX0_wipe : MethodName := ⟨RX0, "wipe", "()I"⟩
def dkwX0_wipe_0 : List UInt8 := [42, 180, 0, 87, 60, 42, 3, 181, 0, 87, 27, 172]
abbrev dktX0_wipe_0 : List UInt8 := dkwX0_wipe_0 ++ []
theorem dksX0_wipe_0 : cX0_wipe.data.toList.drop 0 = dktX0_wipe_0 := by decide +kernel
theorem dX0_wipe_0 : decode cX0_wipe 0 = .ok (.aload_n 0, 1) := dk_42 (dk_at dksX0_wipe_0 0 rfl rfl)
theorem dX0_wipe_1 : decode cX0_wipe 1 = .ok (.getfield 87, 3) := dk_180 0 87 (dk_at dksX0_wipe_0 1 rfl rfl)
theorem dX0_wipe_4 : decode cX0_wipe 4 = .ok (.istore_n 1, 1) := dk_60 (dk_at dksX0_wipe_0 4 rfl rfl)
theorem dX0_wipe_5 : decode cX0_wipe 5 = .ok (.aload_n 0, 1) := dk_42 (dk_at dksX0_wipe_0 5 rfl rfl)
theorem dX0_wipe_6 : decode cX0_wipe 6 = .ok (.iconst 0, 1) := dk_3 (dk_at dksX0_wipe_0 6 rfl rfl)
theorem dX0_wipe_7 : decode cX0_wipe 7 = .ok (.putfield 87, 3) := dk_181 0 87 (dk_at dksX0_wipe_0 7 rfl rfl)
theorem dX0_wipe_10 : decode cX0_wipe 10 = .ok (.iload_n 1, 1) := dk_27 (dk_at dksX0_wipe_0 10 rfl rfl)
theorem dX0_wipe_11 : decode cX0_wipe 11 = .ok (.ireturn, 1) := dk_172 (dk_at dksX0_wipe_0 11 rfl rfl)
abbrev cX0_fault : ByteArray := prog_1_method_13_code
def yX0_fault : MethodName := ⟨RX0, "fault", "()I"⟩
theorem dX0_fault_0 : decode cX0_fault 0 = .ok (.aload_n 0, 1) := by decide +kernel
theorem dX0_fault_1 : decode cX0_fault 1 = .ok (.invokevirtual 137, 3) := by decide +kernel
theorem dX0_fault_4 : decode cX0_fault 4 = .ok (.ireturn, 1) := by decide +kernel
abbrev cX0_job : ByteArray := prog_1_method_16_code
def yX0_job : MethodName := ⟨RX0, "job", "(II)I"⟩
def dkwX0_job_6 : List UInt8 := [180, 0, 168, 27, 51, 27, 182, 0, 187, 58, 4, 167, 255, 211, 29, 172]
abbrev dktX0_job_6 : List UInt8 := dkwX0_job_6 ++ []
def dkwX0_job_5 : List UInt8 := [159, 0, 37, 167, 0, 11, 25, 4, 182, 0, 184, 154, 0, 26, 132, 3, 1, 25, 4, 42, 180, 0, 32]
abbrev dktX0_job_5 : List UInt8 := dkwX0_job_5 ++ dktX0_job_6
def dkwX0_job_4 : List UInt8 := [172, 3, 62, 42, 180, 0, 32, 180, 0, 180, 58, 4, 28, 8, 160, 0, 15, 25, 4, 180, 0, 1, 27]
abbrev dktX0_job_4 : List UInt8 := dkwX0_job_4 ++ dktX0_job_5
def dkwX0_job_3 : List UInt8 := [180, 0, 171, 27, 51, 172, 42, 180, 0, 32, 180, 0, 174, 27, 51, 172, 42, 180, 0, 32, 27, 182, 0, 177]
abbrev dktX0_job_3 : List UInt8 := dkwX0_job_3 ++ dktX0_job_4
def dkwX0_job_2 : List UInt8 := [42, 180, 0, 32, 180, 0, 165, 27, 51, 172, 42, 180, 0, 32, 180, 0, 168, 27, 51, 172, 42, 180, 0, 32]
abbrev dktX0_job_2 : List UInt8 := dkwX0_job_2 ++ dktX0_job_3
def dkwX0_job_1 : List UInt8 := [170, 0, 0, 0, 82, 0, 0, 0, 0, 0, 0, 0, 4, 0, 0, 0, 33, 0, 0, 0, 43, 0, 0, 0, 53, 0, 0, 0, 63, 0, 0, 0, 73]
abbrev dktX0_job_1 : List UInt8 := dkwX0_job_1 ++ dktX0_job_2
def dkwX0_job_0 : List UInt8 := [42, 27, 182, 0, 159, 153, 0, 15, 28, 133, 9, 20, 0, 163, 184, 0, 93, 154, 0, 5, 2, 172, 28]
abbrev dktX0_job_0 : List UInt8 := dkwX0_job_0 ++ dktX0_job_1
theorem dksX0_job_0 : cX0_job.data.toList.drop 0 = dktX0_job_0 := by decide +kernel
theorem dksX0_job_1 : cX0_job.data.toList.drop 23 = dktX0_job_1 := dk_seg dksX0_job_0 23 rfl rfl
theorem dksX0_job_2 : cX0_job.data.toList.drop 56 = dktX0_job_2 := dk_seg dksX0_job_1 33 rfl rfl
theorem dksX0_job_3 : cX0_job.data.toList.drop 80 = dktX0_job_3 := dk_seg dksX0_job_2 24 rfl rfl
theorem dksX0_job_4 : cX0_job.data.toList.drop 104 = dktX0_job_4 := dk_seg dksX0_job_3 24 rfl rfl
theorem dksX0_job_5 : cX0_job.data.toList.drop 127 = dktX0_job_5 := dk_seg dksX0_job_4 23 rfl rfl
theorem dksX0_job_6 : cX0_job.data.toList.drop 150 = dktX0_job_6 := dk_seg dksX0_job_5 23 rfl rfl
theorem dX0_job_0 : decode cX0_job 0 = .ok (.aload_n 0, 1) := dk_42 (dk_at dksX0_job_0 0 rfl rfl)
theorem dX0_job_1 : decode cX0_job 1 = .ok (.iload_n 1, 1) := dk_27 (dk_at dksX0_job_0 1 rfl rfl)
theorem dX0_job_2 : decode cX0_job 2 = .ok (.invokevirtual 159, 3) := dk_182 0 159 (dk_at dksX0_job_0 2 rfl rfl)
theorem dX0_job_5 : decode cX0_job 5 = .ok (.ifCond .eq 15, 3) := dk_153 0 15 (dk_at dksX0_job_0 5 rfl rfl)
theorem dX0_job_8 : decode cX0_job 8 = .ok (.iload_n 2, 1) := dk_28 (dk_at dksX0_job_0 8 rfl rfl)
theorem dX0_job_9 : decode cX0_job 9 = .ok (.i2l, 1) := dk_133 (dk_at dksX0_job_0 9 rfl rfl)
theorem dX0_job_10 : decode cX0_job 10 = .ok (.lconst 0, 1) := dk_9 (dk_at dksX0_job_0 10 rfl rfl)
theorem dX0_job_11 : decode cX0_job 11 = .ok (.ldc2_w 163, 3) := dk_20 0 163 (dk_at dksX0_job_0 11 rfl rfl)
theorem dX0_job_14 : decode cX0_job 14 = .ok (.invokestatic 93, 3) := dk_184 0 93 (dk_at dksX0_job_0 14 rfl rfl)
theorem dX0_job_17 : decode cX0_job 17 = .ok (.ifCond .ne 5, 3) := dk_154 0 5 (dk_at dksX0_job_0 17 rfl rfl)
theorem dX0_job_20 : decode cX0_job 20 = .ok (.iconst (-1), 1) := dk_2 (dk_at dksX0_job_0 20 rfl rfl)
theorem dX0_job_21 : decode cX0_job 21 = .ok (.ireturn, 1) := dk_172 (dk_at dksX0_job_0 21 rfl rfl)
theorem dX0_job_22 : decode cX0_job 22 = .ok (.iload_n 2, 1) := dk_28 (dk_at dksX0_job_0 22 rfl rfl)
theorem dX0_job_23 : decode cX0_job 23 = .ok (.tableswitch 82 0 4 #[33, 43, 53, 63, 73], 33) := by decide +kernel
theorem dX0_job_56 : decode cX0_job 56 = .ok (.aload_n 0, 1) := dk_42 (dk_at dksX0_job_2 0 rfl rfl)
theorem dX0_job_57 : decode cX0_job 57 = .ok (.getfield 32, 3) := dk_180 0 32 (dk_at dksX0_job_2 1 rfl rfl)
theorem dX0_job_60 : decode cX0_job 60 = .ok (.getfield 165, 3) := dk_180 0 165 (dk_at dksX0_job_2 4 rfl rfl)
theorem dX0_job_63 : decode cX0_job 63 = .ok (.iload_n 1, 1) := dk_27 (dk_at dksX0_job_2 7 rfl rfl)
theorem dX0_job_64 : decode cX0_job 64 = .ok (.baload, 1) := dk_51 (dk_at dksX0_job_2 8 rfl rfl)
theorem dX0_job_65 : decode cX0_job 65 = .ok (.ireturn, 1) := dk_172 (dk_at dksX0_job_2 9 rfl rfl)
theorem dX0_job_66 : decode cX0_job 66 = .ok (.aload_n 0, 1) := dk_42 (dk_at dksX0_job_2 10 rfl rfl)
theorem dX0_job_67 : decode cX0_job 67 = .ok (.getfield 32, 3) := dk_180 0 32 (dk_at dksX0_job_2 11 rfl rfl)
theorem dX0_job_70 : decode cX0_job 70 = .ok (.getfield 168, 3) := dk_180 0 168 (dk_at dksX0_job_2 14 rfl rfl)
theorem dX0_job_73 : decode cX0_job 73 = .ok (.iload_n 1, 1) := dk_27 (dk_at dksX0_job_2 17 rfl rfl)
theorem dX0_job_74 : decode cX0_job 74 = .ok (.baload, 1) := dk_51 (dk_at dksX0_job_2 18 rfl rfl)
theorem dX0_job_75 : decode cX0_job 75 = .ok (.ireturn, 1) := dk_172 (dk_at dksX0_job_2 19 rfl rfl)
theorem dX0_job_76 : decode cX0_job 76 = .ok (.aload_n 0, 1) := dk_42 (dk_at dksX0_job_2 20 rfl rfl)
theorem dX0_job_77 : decode cX0_job 77 = .ok (.getfield 32, 3) := dk_180 0 32 (dk_at dksX0_job_2 21 rfl rfl)
theorem dX0_job_80 : decode cX0_job 80 = .ok (.getfield 171, 3) := dk_180 0 171 (dk_at dksX0_job_3 0 rfl rfl)
theorem dX0_job_83 : decode cX0_job 83 = .ok (.iload_n 1, 1) := dk_27 (dk_at dksX0_job_3 3 rfl rfl)
theorem dX0_job_84 : decode cX0_job 84 = .ok (.baload, 1) := dk_51 (dk_at dksX0_job_3 4 rfl rfl)
theorem dX0_job_85 : decode cX0_job 85 = .ok (.ireturn, 1) := dk_172 (dk_at dksX0_job_3 5 rfl rfl)
theorem dX0_job_86 : decode cX0_job 86 = .ok (.aload_n 0, 1) := dk_42 (dk_at dksX0_job_3 6 rfl rfl)
theorem dX0_job_87 : decode cX0_job 87 = .ok (.getfield 32, 3) := dk_180 0 32 (dk_at dksX0_job_3 7 rfl rfl)
theorem dX0_job_90 : decode cX0_job 90 = .ok (.getfield 174, 3) := dk_180 0 174 (dk_at dksX0_job_3 10 rfl rfl)
theorem dX0_job_93 : decode cX0_job 93 = .ok (.iload_n 1, 1) := dk_27 (dk_at dksX0_job_3 13 rfl rfl)
theorem dX0_job_94 : decode cX0_job 94 = .ok (.baload, 1) := dk_51 (dk_at dksX0_job_3 14 rfl rfl)
theorem dX0_job_95 : decode cX0_job 95 = .ok (.ireturn, 1) := dk_172 (dk_at dksX0_job_3 15 rfl rfl)
theorem dX0_job_96 : decode cX0_job 96 = .ok (.aload_n 0, 1) := dk_42 (dk_at dksX0_job_3 16 rfl rfl)
theorem dX0_job_97 : decode cX0_job 97 = .ok (.getfield 32, 3) := dk_180 0 32 (dk_at dksX0_job_3 17 rfl rfl)
theorem dX0_job_100 : decode cX0_job 100 = .ok (.iload_n 1, 1) := dk_27 (dk_at dksX0_job_3 20 rfl rfl)
theorem dX0_job_101 : decode cX0_job 101 = .ok (.invokevirtual 177, 3) := dk_182 0 177 (dk_at dksX0_job_3 21 rfl rfl)
theorem dX0_job_104 : decode cX0_job 104 = .ok (.ireturn, 1) := dk_172 (dk_at dksX0_job_4 0 rfl rfl)
theorem dX0_job_105 : decode cX0_job 105 = .ok (.iconst 0, 1) := dk_3 (dk_at dksX0_job_4 1 rfl rfl)
theorem dX0_job_106 : decode cX0_job 106 = .ok (.istore_n 3, 1) := dk_62 (dk_at dksX0_job_4 2 rfl rfl)
theorem dX0_job_107 : decode cX0_job 107 = .ok (.aload_n 0, 1) := dk_42 (dk_at dksX0_job_4 3 rfl rfl)
theorem dX0_job_108 : decode cX0_job 108 = .ok (.getfield 32, 3) := dk_180 0 32 (dk_at dksX0_job_4 4 rfl rfl)
theorem dX0_job_111 : decode cX0_job 111 = .ok (.getfield 180, 3) := dk_180 0 180 (dk_at dksX0_job_4 7 rfl rfl)
theorem dX0_job_114 : decode cX0_job 114 = .ok (.astore 4, 2) := dk_58 4 (dk_at dksX0_job_4 10 rfl rfl)
theorem dX0_job_116 : decode cX0_job 116 = .ok (.iload_n 2, 1) := dk_28 (dk_at dksX0_job_4 12 rfl rfl)
theorem dX0_job_117 : decode cX0_job 117 = .ok (.iconst 5, 1) := dk_8 (dk_at dksX0_job_4 13 rfl rfl)
theorem dX0_job_118 : decode cX0_job 118 = .ok (.if_icmp .ne 15, 3) := dk_160 0 15 (dk_at dksX0_job_4 14 rfl rfl)
theorem dX0_job_121 : decode cX0_job 121 = .ok (.aload 4, 2) := dk_25 4 (dk_at dksX0_job_4 17 rfl rfl)
theorem dX0_job_123 : decode cX0_job 123 = .ok (.getfield 1, 3) := dk_180 0 1 (dk_at dksX0_job_4 19 rfl rfl)
theorem dX0_job_126 : decode cX0_job 126 = .ok (.iload_n 1, 1) := dk_27 (dk_at dksX0_job_4 22 rfl rfl)
theorem dX0_job_127 : decode cX0_job 127 = .ok (.if_icmp .eq 37, 3) := dk_159 0 37 (dk_at dksX0_job_5 0 rfl rfl)
theorem dX0_job_130 : decode cX0_job 130 = .ok (.goto 11, 3) := dk_167 0 11 (dk_at dksX0_job_5 3 rfl rfl)
theorem dX0_job_133 : decode cX0_job 133 = .ok (.aload 4, 2) := dk_25 4 (dk_at dksX0_job_5 6 rfl rfl)
theorem dX0_job_135 : decode cX0_job 135 = .ok (.invokevirtual 184, 3) := dk_182 0 184 (dk_at dksX0_job_5 8 rfl rfl)
theorem dX0_job_138 : decode cX0_job 138 = .ok (.ifCond .ne 26, 3) := dk_154 0 26 (dk_at dksX0_job_5 11 rfl rfl)
theorem dX0_job_141 : decode cX0_job 141 = .ok (.iinc 3 1, 3) := dk_132 3 1 (dk_at dksX0_job_5 14 rfl rfl)
theorem dX0_job_144 : decode cX0_job 144 = .ok (.aload 4, 2) := dk_25 4 (dk_at dksX0_job_5 17 rfl rfl)
theorem dX0_job_146 : decode cX0_job 146 = .ok (.aload_n 0, 1) := dk_42 (dk_at dksX0_job_5 19 rfl rfl)
theorem dX0_job_147 : decode cX0_job 147 = .ok (.getfield 32, 3) := dk_180 0 32 (dk_at dksX0_job_5 20 rfl rfl)
theorem dX0_job_150 : decode cX0_job 150 = .ok (.getfield 168, 3) := dk_180 0 168 (dk_at dksX0_job_6 0 rfl rfl)
theorem dX0_job_153 : decode cX0_job 153 = .ok (.iload_n 1, 1) := dk_27 (dk_at dksX0_job_6 3 rfl rfl)
theorem dX0_job_154 : decode cX0_job 154 = .ok (.baload, 1) := dk_51 (dk_at dksX0_job_6 4 rfl rfl)
theorem dX0_job_155 : decode cX0_job 155 = .ok (.iload_n 1, 1) := dk_27 (dk_at dksX0_job_6 5 rfl rfl)
theorem dX0_job_156 : decode cX0_job 156 = .ok (.invokevirtual 187, 3) := dk_182 0 187 (dk_at dksX0_job_6 6 rfl rfl)
theorem dX0_job_159 : decode cX0_job 159 = .ok (.astore 4, 2) := dk_58 4 (dk_at dksX0_job_6 9 rfl rfl)
theorem dX0_job_161 : decode cX0_job 161 = .ok (.goto (-45), 3) := dk_167 255 211 (dk_at dksX0_job_6 11 rfl rfl)
theorem dX0_job_164 : decode cX0_job 164 = .ok (.iload_n 3, 1) := dk_29 (dk_at dksX0_job_6 14 rfl rfl)
theorem dX0_job_165 : decode cX0_job 165 = .ok (.ireturn, 1) := dk_172 (dk_at dksX0_job_6 15 rfl rfl)
abbrev cX0_isJob : ByteArray := prog_1_method_15_code
def yX0_isJob : MethodName := ⟨RX0, "isJob", "(I)Z"⟩
def dkwX0_isJob_1 : List UInt8 := [153, 0, 7, 4, 167, 0, 4, 3, 172]
abbrev dktX0_isJob_1 : List UInt8 := dkwX0_isJob_1 ++ []
def dkwX0_isJob_0 : List UInt8 := [27, 133, 9, 20, 0, 153, 184, 0, 93, 153, 0, 21, 42, 180, 0, 32, 180, 0, 140, 27, 184, 0, 155]
abbrev dktX0_isJob_0 : List UInt8 := dkwX0_isJob_0 ++ dktX0_isJob_1
theorem dksX0_isJob_0 : cX0_isJob.data.toList.drop 0 = dktX0_isJob_0 := by decide +kernel
theorem dksX0_isJob_1 : cX0_isJob.data.toList.drop 23 = dktX0_isJob_1 := dk_seg dksX0_isJob_0 23 rfl rfl
theorem dX0_isJob_0 : decode cX0_isJob 0 = .ok (.iload_n 1, 1) := dk_27 (dk_at dksX0_isJob_0 0 rfl rfl)
theorem dX0_isJob_1 : decode cX0_isJob 1 = .ok (.i2l, 1) := dk_133 (dk_at dksX0_isJob_0 1 rfl rfl)
theorem dX0_isJob_2 : decode cX0_isJob 2 = .ok (.lconst 0, 1) := dk_9 (dk_at dksX0_isJob_0 2 rfl rfl)
theorem dX0_isJob_3 : decode cX0_isJob 3 = .ok (.ldc2_w 153, 3) := dk_20 0 153 (dk_at dksX0_isJob_0 3 rfl rfl)
theorem dX0_isJob_6 : decode cX0_isJob 6 = .ok (.invokestatic 93, 3) := dk_184 0 93 (dk_at dksX0_isJob_0 6 rfl rfl)
theorem dX0_isJob_9 : decode cX0_isJob 9 = .ok (.ifCond .eq 21, 3) := dk_153 0 21 (dk_at dksX0_isJob_0 9 rfl rfl)
theorem dX0_isJob_12 : decode cX0_isJob 12 = .ok (.aload_n 0, 1) := dk_42 (dk_at dksX0_isJob_0 12 rfl rfl)
theorem dX0_isJob_13 : decode cX0_isJob 13 = .ok (.getfield 32, 3) := dk_180 0 32 (dk_at dksX0_isJob_0 13 rfl rfl)
theorem dX0_isJob_16 : decode cX0_isJob 16 = .ok (.getfield 140, 3) := dk_180 0 140 (dk_at dksX0_isJob_0 16 rfl rfl)
theorem dX0_isJob_19 : decode cX0_isJob 19 = .ok (.iload_n 1, 1) := dk_27 (dk_at dksX0_isJob_0 19 rfl rfl)
theorem dX0_isJob_20 : decode cX0_isJob 20 = .ok (.invokestatic 155, 3) := dk_184 0 155 (dk_at dksX0_isJob_0 20 rfl rfl)
theorem dX0_isJob_23 : decode cX0_isJob 23 = .ok (.ifCond .eq 7, 3) := dk_153 0 7 (dk_at dksX0_isJob_1 0 rfl rfl)
theorem dX0_isJob_26 : decode cX0_isJob 26 = .ok (.iconst 1, 1) := dk_4 (dk_at dksX0_isJob_1 3 rfl rfl)
theorem dX0_isJob_27 : decode cX0_isJob 27 = .ok (.goto 4, 3) := dk_167 0 4 (dk_at dksX0_isJob_1 4 rfl rfl)
theorem dX0_isJob_30 : decode cX0_isJob 30 = .ok (.iconst 0, 1) := dk_3 (dk_at dksX0_isJob_1 7 rfl rfl)
theorem dX0_isJob_31 : decode cX0_isJob 31 = .ok (.ireturn, 1) := dk_172 (dk_at dksX0_isJob_1 8 rfl rfl)
abbrev cX0_has : ByteArray := prog_1_method_2_code
def yX0_has : MethodName := ⟨RX0, "has", "(II)Z"⟩
def dkwX0_has_0 : List UInt8 := [26, 27, 122, 4, 126, 4, 160, 0, 7, 4, 167, 0, 4, 3, 172]
abbrev dktX0_has_0 : List UInt8 := dkwX0_has_0 ++ []
theorem dksX0_has_0 : cX0_has.data.toList.drop 0 = dktX0_has_0 := by decide +kernel
theorem dX0_has_0 : decode cX0_has 0 = .ok (.iload_n 0, 1) := dk_26 (dk_at dksX0_has_0 0 rfl rfl)
theorem dX0_has_1 : decode cX0_has 1 = .ok (.iload_n 1, 1) := dk_27 (dk_at dksX0_has_0 1 rfl rfl)
theorem dX0_has_2 : decode cX0_has 2 = .ok (.ishr, 1) := dk_122 (dk_at dksX0_has_0 2 rfl rfl)
theorem dX0_has_3 : decode cX0_has 3 = .ok (.iconst 1, 1) := dk_4 (dk_at dksX0_has_0 3 rfl rfl)
theorem dX0_has_4 : decode cX0_has 4 = .ok (.iand, 1) := dk_126 (dk_at dksX0_has_0 4 rfl rfl)
theorem dX0_has_5 : decode cX0_has 5 = .ok (.iconst 1, 1) := dk_4 (dk_at dksX0_has_0 5 rfl rfl)
theorem dX0_has_6 : decode cX0_has 6 = .ok (.if_icmp .ne 7, 3) := dk_160 0 7 (dk_at dksX0_has_0 6 rfl rfl)
theorem dX0_has_9 : decode cX0_has 9 = .ok (.iconst 1, 1) := dk_4 (dk_at dksX0_has_0 9 rfl rfl)
theorem dX0_has_10 : decode cX0_has 10 = .ok (.goto 4, 3) := dk_167 0 4 (dk_at dksX0_has_0 10 rfl rfl)
theorem dX0_has_13 : decode cX0_has 13 = .ok (.iconst 0, 1) := dk_3 (dk_at dksX0_has_0 13 rfl rfl)
theorem dX0_has_14 : decode cX0_has 14 = .ok (.ireturn, 1) := dk_172 (dk_at dksX0_has_0 14 rfl rfl)
abbrev cX0_node : ByteArray := prog_1_method_17_code
def yX0_node : MethodName := ⟨RX0, "node", "(II)I"⟩
def dkwX0_node_5 : List UInt8 := [172]
abbrev dktX0_node_5 : List UInt8 := dkwX0_node_5 ++ []
def dkwX0_node_4 : List UInt8 := [167, 0, 19, 28, 5, 160, 0, 10, 45, 180, 0, 209, 167, 0, 7, 45, 180, 0, 211, 172, 58, 4, 16, 252]
abbrev dktX0_node_4 : List UInt8 := dkwX0_node_4 ++ dktX0_node_5
def dkwX0_node_3 : List UInt8 := [167, 255, 227, 28, 154, 0, 10, 45, 180, 0, 1, 167, 0, 31, 28, 4, 160, 0, 10, 45, 180, 0, 206]
abbrev dktX0_node_3 : List UInt8 := dkwX0_node_3 ++ dktX0_node_4
def dkwX0_node_2 : List UInt8 := [27, 21, 4, 184, 0, 155, 153, 0, 10, 45, 180, 0, 200, 167, 0, 7, 45, 180, 0, 203, 78, 132, 4, 255]
abbrev dktX0_node_2 : List UInt8 := dkwX0_node_2 ++ dktX0_node_3
def dkwX0_node_1 : List UInt8 := [2, 172, 42, 180, 0, 32, 180, 0, 180, 78, 16, 30, 27, 184, 0, 195, 100, 54, 4, 21, 4, 155, 0, 30]
abbrev dktX0_node_1 : List UInt8 := dkwX0_node_1 ++ dktX0_node_2
def dkwX0_node_0 : List UInt8 := [27, 133, 10, 20, 0, 191, 184, 0, 93, 153, 0, 15, 28, 133, 9, 20, 0, 193, 184, 0, 93, 154, 0, 5]
abbrev dktX0_node_0 : List UInt8 := dkwX0_node_0 ++ dktX0_node_1
theorem dksX0_node_0 : cX0_node.data.toList.drop 0 = dktX0_node_0 := by decide +kernel
theorem dksX0_node_1 : cX0_node.data.toList.drop 24 = dktX0_node_1 := dk_seg dksX0_node_0 24 rfl rfl
theorem dksX0_node_2 : cX0_node.data.toList.drop 48 = dktX0_node_2 := dk_seg dksX0_node_1 24 rfl rfl
theorem dksX0_node_3 : cX0_node.data.toList.drop 72 = dktX0_node_3 := dk_seg dksX0_node_2 24 rfl rfl
theorem dksX0_node_4 : cX0_node.data.toList.drop 95 = dktX0_node_4 := dk_seg dksX0_node_3 23 rfl rfl
theorem dksX0_node_5 : cX0_node.data.toList.drop 119 = dktX0_node_5 := dk_seg dksX0_node_4 24 rfl rfl
theorem dX0_node_0 : decode cX0_node 0 = .ok (.iload_n 1, 1) := dk_27 (dk_at dksX0_node_0 0 rfl rfl)
theorem dX0_node_1 : decode cX0_node 1 = .ok (.i2l, 1) := dk_133 (dk_at dksX0_node_0 1 rfl rfl)
theorem dX0_node_2 : decode cX0_node 2 = .ok (.lconst 1, 1) := dk_10 (dk_at dksX0_node_0 2 rfl rfl)
theorem dX0_node_3 : decode cX0_node 3 = .ok (.ldc2_w 191, 3) := dk_20 0 191 (dk_at dksX0_node_0 3 rfl rfl)
theorem dX0_node_6 : decode cX0_node 6 = .ok (.invokestatic 93, 3) := dk_184 0 93 (dk_at dksX0_node_0 6 rfl rfl)
theorem dX0_node_9 : decode cX0_node 9 = .ok (.ifCond .eq 15, 3) := dk_153 0 15 (dk_at dksX0_node_0 9 rfl rfl)
theorem dX0_node_12 : decode cX0_node 12 = .ok (.iload_n 2, 1) := dk_28 (dk_at dksX0_node_0 12 rfl rfl)
theorem dX0_node_13 : decode cX0_node 13 = .ok (.i2l, 1) := dk_133 (dk_at dksX0_node_0 13 rfl rfl)
theorem dX0_node_14 : decode cX0_node 14 = .ok (.lconst 0, 1) := dk_9 (dk_at dksX0_node_0 14 rfl rfl)
theorem dX0_node_15 : decode cX0_node 15 = .ok (.ldc2_w 193, 3) := dk_20 0 193 (dk_at dksX0_node_0 15 rfl rfl)
theorem dX0_node_18 : decode cX0_node 18 = .ok (.invokestatic 93, 3) := dk_184 0 93 (dk_at dksX0_node_0 18 rfl rfl)
theorem dX0_node_21 : decode cX0_node 21 = .ok (.ifCond .ne 5, 3) := dk_154 0 5 (dk_at dksX0_node_0 21 rfl rfl)
theorem dX0_node_24 : decode cX0_node 24 = .ok (.iconst (-1), 1) := dk_2 (dk_at dksX0_node_1 0 rfl rfl)
theorem dX0_node_25 : decode cX0_node 25 = .ok (.ireturn, 1) := dk_172 (dk_at dksX0_node_1 1 rfl rfl)
theorem dX0_node_26 : decode cX0_node 26 = .ok (.aload_n 0, 1) := dk_42 (dk_at dksX0_node_1 2 rfl rfl)
theorem dX0_node_27 : decode cX0_node 27 = .ok (.getfield 32, 3) := dk_180 0 32 (dk_at dksX0_node_1 3 rfl rfl)
theorem dX0_node_30 : decode cX0_node 30 = .ok (.getfield 180, 3) := dk_180 0 180 (dk_at dksX0_node_1 6 rfl rfl)
theorem dX0_node_33 : decode cX0_node 33 = .ok (.astore_n 3, 1) := dk_78 (dk_at dksX0_node_1 9 rfl rfl)
theorem dX0_node_34 : decode cX0_node 34 = .ok (.bipush 30, 2) := dk_16 30 (dk_at dksX0_node_1 10 rfl rfl)
theorem dX0_node_36 : decode cX0_node 36 = .ok (.iload_n 1, 1) := dk_27 (dk_at dksX0_node_1 12 rfl rfl)
theorem dX0_node_37 : decode cX0_node 37 = .ok (.invokestatic 195, 3) := dk_184 0 195 (dk_at dksX0_node_1 13 rfl rfl)
theorem dX0_node_40 : decode cX0_node 40 = .ok (.isub, 1) := dk_100 (dk_at dksX0_node_1 16 rfl rfl)
theorem dX0_node_41 : decode cX0_node 41 = .ok (.istore 4, 2) := dk_54 4 (dk_at dksX0_node_1 17 rfl rfl)
theorem dX0_node_43 : decode cX0_node 43 = .ok (.iload 4, 2) := dk_21 4 (dk_at dksX0_node_1 19 rfl rfl)
theorem dX0_node_45 : decode cX0_node 45 = .ok (.ifCond .lt 30, 3) := dk_155 0 30 (dk_at dksX0_node_1 21 rfl rfl)
theorem dX0_node_48 : decode cX0_node 48 = .ok (.iload_n 1, 1) := dk_27 (dk_at dksX0_node_2 0 rfl rfl)
theorem dX0_node_49 : decode cX0_node 49 = .ok (.iload 4, 2) := dk_21 4 (dk_at dksX0_node_2 1 rfl rfl)
theorem dX0_node_51 : decode cX0_node 51 = .ok (.invokestatic 155, 3) := dk_184 0 155 (dk_at dksX0_node_2 3 rfl rfl)
theorem dX0_node_54 : decode cX0_node 54 = .ok (.ifCond .eq 10, 3) := dk_153 0 10 (dk_at dksX0_node_2 6 rfl rfl)
theorem dX0_node_57 : decode cX0_node 57 = .ok (.aload_n 3, 1) := dk_45 (dk_at dksX0_node_2 9 rfl rfl)
theorem dX0_node_58 : decode cX0_node 58 = .ok (.getfield 200, 3) := dk_180 0 200 (dk_at dksX0_node_2 10 rfl rfl)
theorem dX0_node_61 : decode cX0_node 61 = .ok (.goto 7, 3) := dk_167 0 7 (dk_at dksX0_node_2 13 rfl rfl)
theorem dX0_node_64 : decode cX0_node 64 = .ok (.aload_n 3, 1) := dk_45 (dk_at dksX0_node_2 16 rfl rfl)
theorem dX0_node_65 : decode cX0_node 65 = .ok (.getfield 203, 3) := dk_180 0 203 (dk_at dksX0_node_2 17 rfl rfl)
theorem dX0_node_68 : decode cX0_node 68 = .ok (.astore_n 3, 1) := dk_78 (dk_at dksX0_node_2 20 rfl rfl)
theorem dX0_node_69 : decode cX0_node 69 = .ok (.iinc 4 (-1), 3) := dk_132 4 255 (dk_at dksX0_node_2 21 rfl rfl)
theorem dX0_node_72 : decode cX0_node 72 = .ok (.goto (-29), 3) := dk_167 255 227 (dk_at dksX0_node_3 0 rfl rfl)
theorem dX0_node_75 : decode cX0_node 75 = .ok (.iload_n 2, 1) := dk_28 (dk_at dksX0_node_3 3 rfl rfl)
theorem dX0_node_76 : decode cX0_node 76 = .ok (.ifCond .ne 10, 3) := dk_154 0 10 (dk_at dksX0_node_3 4 rfl rfl)
theorem dX0_node_79 : decode cX0_node 79 = .ok (.aload_n 3, 1) := dk_45 (dk_at dksX0_node_3 7 rfl rfl)
theorem dX0_node_80 : decode cX0_node 80 = .ok (.getfield 1, 3) := dk_180 0 1 (dk_at dksX0_node_3 8 rfl rfl)
theorem dX0_node_83 : decode cX0_node 83 = .ok (.goto 31, 3) := dk_167 0 31 (dk_at dksX0_node_3 11 rfl rfl)
theorem dX0_node_86 : decode cX0_node 86 = .ok (.iload_n 2, 1) := dk_28 (dk_at dksX0_node_3 14 rfl rfl)
theorem dX0_node_87 : decode cX0_node 87 = .ok (.iconst 1, 1) := dk_4 (dk_at dksX0_node_3 15 rfl rfl)
theorem dX0_node_88 : decode cX0_node 88 = .ok (.if_icmp .ne 10, 3) := dk_160 0 10 (dk_at dksX0_node_3 16 rfl rfl)
theorem dX0_node_91 : decode cX0_node 91 = .ok (.aload_n 3, 1) := dk_45 (dk_at dksX0_node_3 19 rfl rfl)
theorem dX0_node_92 : decode cX0_node 92 = .ok (.getfield 206, 3) := dk_180 0 206 (dk_at dksX0_node_3 20 rfl rfl)
theorem dX0_node_95 : decode cX0_node 95 = .ok (.goto 19, 3) := dk_167 0 19 (dk_at dksX0_node_4 0 rfl rfl)
theorem dX0_node_98 : decode cX0_node 98 = .ok (.iload_n 2, 1) := dk_28 (dk_at dksX0_node_4 3 rfl rfl)
theorem dX0_node_99 : decode cX0_node 99 = .ok (.iconst 2, 1) := dk_5 (dk_at dksX0_node_4 4 rfl rfl)
theorem dX0_node_100 : decode cX0_node 100 = .ok (.if_icmp .ne 10, 3) := dk_160 0 10 (dk_at dksX0_node_4 5 rfl rfl)
theorem dX0_node_103 : decode cX0_node 103 = .ok (.aload_n 3, 1) := dk_45 (dk_at dksX0_node_4 8 rfl rfl)
theorem dX0_node_104 : decode cX0_node 104 = .ok (.getfield 209, 3) := dk_180 0 209 (dk_at dksX0_node_4 9 rfl rfl)
theorem dX0_node_107 : decode cX0_node 107 = .ok (.goto 7, 3) := dk_167 0 7 (dk_at dksX0_node_4 12 rfl rfl)
theorem dX0_node_110 : decode cX0_node 110 = .ok (.aload_n 3, 1) := dk_45 (dk_at dksX0_node_4 15 rfl rfl)
theorem dX0_node_111 : decode cX0_node 111 = .ok (.getfield 211, 3) := dk_180 0 211 (dk_at dksX0_node_4 16 rfl rfl)
theorem dX0_node_114 : decode cX0_node 114 = .ok (.ireturn, 1) := dk_172 (dk_at dksX0_node_4 19 rfl rfl)
theorem dX0_node_115 : decode cX0_node 115 = .ok (.astore 4, 2) := dk_58 4 (dk_at dksX0_node_4 20 rfl rfl)
theorem dX0_node_117 : decode cX0_node 117 = .ok (.bipush (-4), 2) := dk_16 252 (dk_at dksX0_node_4 22 rfl rfl)
theorem dX0_node_119 : decode cX0_node 119 = .ok (.ireturn, 1) := dk_172 (dk_at dksX0_node_5 0 rfl rfl)
abbrev cX0_add : ByteArray := prog_1_method_19_code
def yX0_add : MethodName := ⟨RX0, "add", "(IIII)I"⟩
def dkwX0_add_4 : List UInt8 := [172]
abbrev dktX0_add_4 : List UInt8 := dkwX0_add_4 ++ []
def dkwX0_add_3 : List UInt8 := [42, 180, 0, 32, 182, 0, 227, 54, 5, 42, 180, 0, 32, 27, 28, 29, 21, 4, 182, 0, 127, 87, 21, 5]
abbrev dktX0_add_3 : List UInt8 := dkwX0_add_3 ++ dktX0_add_4
def dkwX0_add_2 : List UInt8 := [154, 0, 5, 2, 172, 42, 180, 0, 32, 182, 0, 124, 16, 12, 160, 0, 6, 16, 253, 172, 42, 182, 0, 224]
abbrev dktX0_add_2 : List UInt8 := dkwX0_add_2 ++ dktX0_add_3
def dkwX0_add_1 : List UInt8 := [29, 133, 9, 20, 0, 220, 184, 0, 93, 153, 0, 16, 21, 4, 133, 10, 20, 0, 222, 184, 0, 93]
abbrev dktX0_add_1 : List UInt8 := dkwX0_add_1 ++ dktX0_add_2
def dkwX0_add_0 : List UInt8 := [27, 133, 9, 20, 0, 193, 184, 0, 93, 153, 0, 40, 28, 133, 9, 20, 0, 220, 184, 0, 93, 153, 0, 28]
abbrev dktX0_add_0 : List UInt8 := dkwX0_add_0 ++ dktX0_add_1
theorem dksX0_add_0 : cX0_add.data.toList.drop 0 = dktX0_add_0 := by decide +kernel
theorem dksX0_add_1 : cX0_add.data.toList.drop 24 = dktX0_add_1 := dk_seg dksX0_add_0 24 rfl rfl
theorem dksX0_add_2 : cX0_add.data.toList.drop 46 = dktX0_add_2 := dk_seg dksX0_add_1 22 rfl rfl
theorem dksX0_add_3 : cX0_add.data.toList.drop 70 = dktX0_add_3 := dk_seg dksX0_add_2 24 rfl rfl
theorem dksX0_add_4 : cX0_add.data.toList.drop 94 = dktX0_add_4 := dk_seg dksX0_add_3 24 rfl rfl
theorem dX0_add_0 : decode cX0_add 0 = .ok (.iload_n 1, 1) := dk_27 (dk_at dksX0_add_0 0 rfl rfl)
theorem dX0_add_1 : decode cX0_add 1 = .ok (.i2l, 1) := dk_133 (dk_at dksX0_add_0 1 rfl rfl)
theorem dX0_add_2 : decode cX0_add 2 = .ok (.lconst 0, 1) := dk_9 (dk_at dksX0_add_0 2 rfl rfl)
theorem dX0_add_3 : decode cX0_add 3 = .ok (.ldc2_w 193, 3) := dk_20 0 193 (dk_at dksX0_add_0 3 rfl rfl)
theorem dX0_add_6 : decode cX0_add 6 = .ok (.invokestatic 93, 3) := dk_184 0 93 (dk_at dksX0_add_0 6 rfl rfl)
theorem dX0_add_9 : decode cX0_add 9 = .ok (.ifCond .eq 40, 3) := dk_153 0 40 (dk_at dksX0_add_0 9 rfl rfl)
theorem dX0_add_12 : decode cX0_add 12 = .ok (.iload_n 2, 1) := dk_28 (dk_at dksX0_add_0 12 rfl rfl)
theorem dX0_add_13 : decode cX0_add 13 = .ok (.i2l, 1) := dk_133 (dk_at dksX0_add_0 13 rfl rfl)
theorem dX0_add_14 : decode cX0_add 14 = .ok (.lconst 0, 1) := dk_9 (dk_at dksX0_add_0 14 rfl rfl)
theorem dX0_add_15 : decode cX0_add 15 = .ok (.ldc2_w 220, 3) := dk_20 0 220 (dk_at dksX0_add_0 15 rfl rfl)
theorem dX0_add_18 : decode cX0_add 18 = .ok (.invokestatic 93, 3) := dk_184 0 93 (dk_at dksX0_add_0 18 rfl rfl)
theorem dX0_add_21 : decode cX0_add 21 = .ok (.ifCond .eq 28, 3) := dk_153 0 28 (dk_at dksX0_add_0 21 rfl rfl)
theorem dX0_add_24 : decode cX0_add 24 = .ok (.iload_n 3, 1) := dk_29 (dk_at dksX0_add_1 0 rfl rfl)
theorem dX0_add_25 : decode cX0_add 25 = .ok (.i2l, 1) := dk_133 (dk_at dksX0_add_1 1 rfl rfl)
theorem dX0_add_26 : decode cX0_add 26 = .ok (.lconst 0, 1) := dk_9 (dk_at dksX0_add_1 2 rfl rfl)
theorem dX0_add_27 : decode cX0_add 27 = .ok (.ldc2_w 220, 3) := dk_20 0 220 (dk_at dksX0_add_1 3 rfl rfl)
theorem dX0_add_30 : decode cX0_add 30 = .ok (.invokestatic 93, 3) := dk_184 0 93 (dk_at dksX0_add_1 6 rfl rfl)
theorem dX0_add_33 : decode cX0_add 33 = .ok (.ifCond .eq 16, 3) := dk_153 0 16 (dk_at dksX0_add_1 9 rfl rfl)
theorem dX0_add_36 : decode cX0_add 36 = .ok (.iload 4, 2) := dk_21 4 (dk_at dksX0_add_1 12 rfl rfl)
theorem dX0_add_38 : decode cX0_add 38 = .ok (.i2l, 1) := dk_133 (dk_at dksX0_add_1 14 rfl rfl)
theorem dX0_add_39 : decode cX0_add 39 = .ok (.lconst 1, 1) := dk_10 (dk_at dksX0_add_1 15 rfl rfl)
theorem dX0_add_40 : decode cX0_add 40 = .ok (.ldc2_w 222, 3) := dk_20 0 222 (dk_at dksX0_add_1 16 rfl rfl)
theorem dX0_add_43 : decode cX0_add 43 = .ok (.invokestatic 93, 3) := dk_184 0 93 (dk_at dksX0_add_1 19 rfl rfl)
theorem dX0_add_46 : decode cX0_add 46 = .ok (.ifCond .ne 5, 3) := dk_154 0 5 (dk_at dksX0_add_2 0 rfl rfl)
theorem dX0_add_49 : decode cX0_add 49 = .ok (.iconst (-1), 1) := dk_2 (dk_at dksX0_add_2 3 rfl rfl)
theorem dX0_add_50 : decode cX0_add 50 = .ok (.ireturn, 1) := dk_172 (dk_at dksX0_add_2 4 rfl rfl)
theorem dX0_add_51 : decode cX0_add 51 = .ok (.aload_n 0, 1) := dk_42 (dk_at dksX0_add_2 5 rfl rfl)
theorem dX0_add_52 : decode cX0_add 52 = .ok (.getfield 32, 3) := dk_180 0 32 (dk_at dksX0_add_2 6 rfl rfl)
theorem dX0_add_55 : decode cX0_add 55 = .ok (.invokevirtual 124, 3) := dk_182 0 124 (dk_at dksX0_add_2 9 rfl rfl)
theorem dX0_add_58 : decode cX0_add 58 = .ok (.bipush 12, 2) := dk_16 12 (dk_at dksX0_add_2 12 rfl rfl)
theorem dX0_add_60 : decode cX0_add 60 = .ok (.if_icmp .ne 6, 3) := dk_160 0 6 (dk_at dksX0_add_2 14 rfl rfl)
theorem dX0_add_63 : decode cX0_add 63 = .ok (.bipush (-3), 2) := dk_16 253 (dk_at dksX0_add_2 17 rfl rfl)
theorem dX0_add_65 : decode cX0_add 65 = .ok (.ireturn, 1) := dk_172 (dk_at dksX0_add_2 19 rfl rfl)
theorem dX0_add_66 : decode cX0_add 66 = .ok (.aload_n 0, 1) := dk_42 (dk_at dksX0_add_2 20 rfl rfl)
theorem dX0_add_67 : decode cX0_add 67 = .ok (.invokevirtual 224, 3) := dk_182 0 224 (dk_at dksX0_add_2 21 rfl rfl)
theorem dX0_add_70 : decode cX0_add 70 = .ok (.aload_n 0, 1) := dk_42 (dk_at dksX0_add_3 0 rfl rfl)
theorem dX0_add_71 : decode cX0_add 71 = .ok (.getfield 32, 3) := dk_180 0 32 (dk_at dksX0_add_3 1 rfl rfl)
theorem dX0_add_74 : decode cX0_add 74 = .ok (.invokevirtual 227, 3) := dk_182 0 227 (dk_at dksX0_add_3 4 rfl rfl)
theorem dX0_add_77 : decode cX0_add 77 = .ok (.istore 5, 2) := dk_54 5 (dk_at dksX0_add_3 7 rfl rfl)
theorem dX0_add_79 : decode cX0_add 79 = .ok (.aload_n 0, 1) := dk_42 (dk_at dksX0_add_3 9 rfl rfl)
theorem dX0_add_80 : decode cX0_add 80 = .ok (.getfield 32, 3) := dk_180 0 32 (dk_at dksX0_add_3 10 rfl rfl)
theorem dX0_add_83 : decode cX0_add 83 = .ok (.iload_n 1, 1) := dk_27 (dk_at dksX0_add_3 13 rfl rfl)
theorem dX0_add_84 : decode cX0_add 84 = .ok (.iload_n 2, 1) := dk_28 (dk_at dksX0_add_3 14 rfl rfl)
theorem dX0_add_85 : decode cX0_add 85 = .ok (.iload_n 3, 1) := dk_29 (dk_at dksX0_add_3 15 rfl rfl)
theorem dX0_add_86 : decode cX0_add 86 = .ok (.iload 4, 2) := dk_21 4 (dk_at dksX0_add_3 16 rfl rfl)
theorem dX0_add_88 : decode cX0_add 88 = .ok (.invokevirtual 127, 3) := dk_182 0 127 (dk_at dksX0_add_3 18 rfl rfl)
theorem dX0_add_91 : decode cX0_add 91 = .ok (.pop, 1) := dk_87 (dk_at dksX0_add_3 21 rfl rfl)
theorem dX0_add_92 : decode cX0_add 92 = .ok (.iload 5, 2) := dk_21 5 (dk_at dksX0_add_3 22 rfl rfl)
theorem dX0_add_94 : decode cX0_add 94 = .ok (.ireturn, 1) := dk_172 (dk_at dksX0_add_4 0 rfl rfl)
abbrev cX0_noteUndo : ByteArray := prog_1_method_18_code
def yX0_noteUndo : MethodName := ⟨RX0, "noteUndo", "()V"⟩
def dkwX0_noteUndo_3 : List UInt8 := [4, 96, 181, 0, 147, 177]
abbrev dktX0_noteUndo_3 : List UInt8 := dkwX0_noteUndo_3 ++ []
def dkwX0_noteUndo_2 : List UInt8 := [181, 0, 147, 42, 180, 0, 42, 42, 180, 0, 147, 50, 42, 180, 0, 32, 182, 0, 143, 42, 89, 180, 0, 147]
abbrev dktX0_noteUndo_2 : List UInt8 := dkwX0_noteUndo_2 ++ dktX0_noteUndo_3
def dkwX0_noteUndo_1 : List UInt8 := [180, 0, 42, 3, 16, 7, 184, 0, 214, 42, 180, 0, 42, 16, 7, 43, 83, 42, 89, 180, 0, 147, 4, 100]
abbrev dktX0_noteUndo_1 : List UInt8 := dkwX0_noteUndo_1 ++ dktX0_noteUndo_2
def dkwX0_noteUndo_0 : List UInt8 := [42, 180, 0, 147, 16, 8, 160, 0, 43, 42, 180, 0, 42, 3, 50, 76, 42, 180, 0, 42, 4, 42]
abbrev dktX0_noteUndo_0 : List UInt8 := dkwX0_noteUndo_0 ++ dktX0_noteUndo_1
theorem dksX0_noteUndo_0 : cX0_noteUndo.data.toList.drop 0 = dktX0_noteUndo_0 := by decide +kernel
theorem dksX0_noteUndo_1 : cX0_noteUndo.data.toList.drop 22 = dktX0_noteUndo_1 := dk_seg dksX0_noteUndo_0 22 rfl rfl
theorem dksX0_noteUndo_2 : cX0_noteUndo.data.toList.drop 46 = dktX0_noteUndo_2 := dk_seg dksX0_noteUndo_1 24 rfl rfl
theorem dksX0_noteUndo_3 : cX0_noteUndo.data.toList.drop 70 = dktX0_noteUndo_3 := dk_seg dksX0_noteUndo_2 24 rfl rfl
theorem dX0_noteUndo_0 : decode cX0_noteUndo 0 = .ok (.aload_n 0, 1) := dk_42 (dk_at dksX0_noteUndo_0 0 rfl rfl)
theorem dX0_noteUndo_1 : decode cX0_noteUndo 1 = .ok (.getfield 147, 3) := dk_180 0 147 (dk_at dksX0_noteUndo_0 1 rfl rfl)
theorem dX0_noteUndo_4 : decode cX0_noteUndo 4 = .ok (.bipush 8, 2) := dk_16 8 (dk_at dksX0_noteUndo_0 4 rfl rfl)
theorem dX0_noteUndo_6 : decode cX0_noteUndo 6 = .ok (.if_icmp .ne 43, 3) := dk_160 0 43 (dk_at dksX0_noteUndo_0 6 rfl rfl)
theorem dX0_noteUndo_9 : decode cX0_noteUndo 9 = .ok (.aload_n 0, 1) := dk_42 (dk_at dksX0_noteUndo_0 9 rfl rfl)
theorem dX0_noteUndo_10 : decode cX0_noteUndo 10 = .ok (.getfield 42, 3) := dk_180 0 42 (dk_at dksX0_noteUndo_0 10 rfl rfl)
theorem dX0_noteUndo_13 : decode cX0_noteUndo 13 = .ok (.iconst 0, 1) := dk_3 (dk_at dksX0_noteUndo_0 13 rfl rfl)
theorem dX0_noteUndo_14 : decode cX0_noteUndo 14 = .ok (.aaload, 1) := dk_50 (dk_at dksX0_noteUndo_0 14 rfl rfl)
theorem dX0_noteUndo_15 : decode cX0_noteUndo 15 = .ok (.astore_n 1, 1) := dk_76 (dk_at dksX0_noteUndo_0 15 rfl rfl)
theorem dX0_noteUndo_16 : decode cX0_noteUndo 16 = .ok (.aload_n 0, 1) := dk_42 (dk_at dksX0_noteUndo_0 16 rfl rfl)
theorem dX0_noteUndo_17 : decode cX0_noteUndo 17 = .ok (.getfield 42, 3) := dk_180 0 42 (dk_at dksX0_noteUndo_0 17 rfl rfl)
theorem dX0_noteUndo_20 : decode cX0_noteUndo 20 = .ok (.iconst 1, 1) := dk_4 (dk_at dksX0_noteUndo_0 20 rfl rfl)
theorem dX0_noteUndo_21 : decode cX0_noteUndo 21 = .ok (.aload_n 0, 1) := dk_42 (dk_at dksX0_noteUndo_0 21 rfl rfl)
theorem dX0_noteUndo_22 : decode cX0_noteUndo 22 = .ok (.getfield 42, 3) := dk_180 0 42 (dk_at dksX0_noteUndo_1 0 rfl rfl)
theorem dX0_noteUndo_25 : decode cX0_noteUndo 25 = .ok (.iconst 0, 1) := dk_3 (dk_at dksX0_noteUndo_1 3 rfl rfl)
theorem dX0_noteUndo_26 : decode cX0_noteUndo 26 = .ok (.bipush 7, 2) := dk_16 7 (dk_at dksX0_noteUndo_1 4 rfl rfl)
theorem dX0_noteUndo_28 : decode cX0_noteUndo 28 = .ok (.invokestatic 214, 3) := dk_184 0 214 (dk_at dksX0_noteUndo_1 6 rfl rfl)
theorem dX0_noteUndo_31 : decode cX0_noteUndo 31 = .ok (.aload_n 0, 1) := dk_42 (dk_at dksX0_noteUndo_1 9 rfl rfl)
theorem dX0_noteUndo_32 : decode cX0_noteUndo 32 = .ok (.getfield 42, 3) := dk_180 0 42 (dk_at dksX0_noteUndo_1 10 rfl rfl)
theorem dX0_noteUndo_35 : decode cX0_noteUndo 35 = .ok (.bipush 7, 2) := dk_16 7 (dk_at dksX0_noteUndo_1 13 rfl rfl)
theorem dX0_noteUndo_37 : decode cX0_noteUndo 37 = .ok (.aload_n 1, 1) := dk_43 (dk_at dksX0_noteUndo_1 15 rfl rfl)
theorem dX0_noteUndo_38 : decode cX0_noteUndo 38 = .ok (.aastore, 1) := dk_83 (dk_at dksX0_noteUndo_1 16 rfl rfl)
theorem dX0_noteUndo_39 : decode cX0_noteUndo 39 = .ok (.aload_n 0, 1) := dk_42 (dk_at dksX0_noteUndo_1 17 rfl rfl)
theorem dX0_noteUndo_40 : decode cX0_noteUndo 40 = .ok (.dup, 1) := dk_89 (dk_at dksX0_noteUndo_1 18 rfl rfl)
theorem dX0_noteUndo_41 : decode cX0_noteUndo 41 = .ok (.getfield 147, 3) := dk_180 0 147 (dk_at dksX0_noteUndo_1 19 rfl rfl)
theorem dX0_noteUndo_44 : decode cX0_noteUndo 44 = .ok (.iconst 1, 1) := dk_4 (dk_at dksX0_noteUndo_1 22 rfl rfl)
theorem dX0_noteUndo_45 : decode cX0_noteUndo 45 = .ok (.isub, 1) := dk_100 (dk_at dksX0_noteUndo_1 23 rfl rfl)
theorem dX0_noteUndo_46 : decode cX0_noteUndo 46 = .ok (.putfield 147, 3) := dk_181 0 147 (dk_at dksX0_noteUndo_2 0 rfl rfl)
theorem dX0_noteUndo_49 : decode cX0_noteUndo 49 = .ok (.aload_n 0, 1) := dk_42 (dk_at dksX0_noteUndo_2 3 rfl rfl)
theorem dX0_noteUndo_50 : decode cX0_noteUndo 50 = .ok (.getfield 42, 3) := dk_180 0 42 (dk_at dksX0_noteUndo_2 4 rfl rfl)
theorem dX0_noteUndo_53 : decode cX0_noteUndo 53 = .ok (.aload_n 0, 1) := dk_42 (dk_at dksX0_noteUndo_2 7 rfl rfl)
theorem dX0_noteUndo_54 : decode cX0_noteUndo 54 = .ok (.getfield 147, 3) := dk_180 0 147 (dk_at dksX0_noteUndo_2 8 rfl rfl)
theorem dX0_noteUndo_57 : decode cX0_noteUndo 57 = .ok (.aaload, 1) := dk_50 (dk_at dksX0_noteUndo_2 11 rfl rfl)
theorem dX0_noteUndo_58 : decode cX0_noteUndo 58 = .ok (.aload_n 0, 1) := dk_42 (dk_at dksX0_noteUndo_2 12 rfl rfl)
theorem dX0_noteUndo_59 : decode cX0_noteUndo 59 = .ok (.getfield 32, 3) := dk_180 0 32 (dk_at dksX0_noteUndo_2 13 rfl rfl)
theorem dX0_noteUndo_62 : decode cX0_noteUndo 62 = .ok (.invokevirtual 143, 3) := dk_182 0 143 (dk_at dksX0_noteUndo_2 16 rfl rfl)
theorem dX0_noteUndo_65 : decode cX0_noteUndo 65 = .ok (.aload_n 0, 1) := dk_42 (dk_at dksX0_noteUndo_2 19 rfl rfl)
theorem dX0_noteUndo_66 : decode cX0_noteUndo 66 = .ok (.dup, 1) := dk_89 (dk_at dksX0_noteUndo_2 20 rfl rfl)
theorem dX0_noteUndo_67 : decode cX0_noteUndo 67 = .ok (.getfield 147, 3) := dk_180 0 147 (dk_at dksX0_noteUndo_2 21 rfl rfl)
theorem dX0_noteUndo_70 : decode cX0_noteUndo 70 = .ok (.iconst 1, 1) := dk_4 (dk_at dksX0_noteUndo_3 0 rfl rfl)
theorem dX0_noteUndo_71 : decode cX0_noteUndo 71 = .ok (.iadd, 1) := dk_96 (dk_at dksX0_noteUndo_3 1 rfl rfl)
theorem dX0_noteUndo_72 : decode cX0_noteUndo 72 = .ok (.putfield 147, 3) := dk_181 0 147 (dk_at dksX0_noteUndo_3 2 rfl rfl)
theorem dX0_noteUndo_75 : decode cX0_noteUndo 75 = .ok (.return_, 1) := dk_177 (dk_at dksX0_noteUndo_3 5 rfl rfl)
abbrev cX0_cut : ByteArray := prog_1_method_20_code
def yX0_cut : MethodName := ⟨RX0, "cut", "(I)I"⟩
def dkwX0_cut_1 : List UInt8 := [42, 182, 0, 224, 42, 180, 0, 32, 27, 182, 0, 230, 87, 42, 180, 0, 32, 182, 0, 124, 172]
abbrev dktX0_cut_1 : List UInt8 := dkwX0_cut_1 ++ []
def dkwX0_cut_0 : List UInt8 := [42, 27, 182, 0, 159, 154, 0, 5, 2, 172, 42, 180, 0, 32, 182, 0, 124, 4, 160, 0, 6, 16, 254, 172]
abbrev dktX0_cut_0 : List UInt8 := dkwX0_cut_0 ++ dktX0_cut_1
theorem dksX0_cut_0 : cX0_cut.data.toList.drop 0 = dktX0_cut_0 := by decide +kernel
theorem dksX0_cut_1 : cX0_cut.data.toList.drop 24 = dktX0_cut_1 := dk_seg dksX0_cut_0 24 rfl rfl
theorem dX0_cut_0 : decode cX0_cut 0 = .ok (.aload_n 0, 1) := dk_42 (dk_at dksX0_cut_0 0 rfl rfl)
theorem dX0_cut_1 : decode cX0_cut 1 = .ok (.iload_n 1, 1) := dk_27 (dk_at dksX0_cut_0 1 rfl rfl)
theorem dX0_cut_2 : decode cX0_cut 2 = .ok (.invokevirtual 159, 3) := dk_182 0 159 (dk_at dksX0_cut_0 2 rfl rfl)
theorem dX0_cut_5 : decode cX0_cut 5 = .ok (.ifCond .ne 5, 3) := dk_154 0 5 (dk_at dksX0_cut_0 5 rfl rfl)
theorem dX0_cut_8 : decode cX0_cut 8 = .ok (.iconst (-1), 1) := dk_2 (dk_at dksX0_cut_0 8 rfl rfl)
theorem dX0_cut_9 : decode cX0_cut 9 = .ok (.ireturn, 1) := dk_172 (dk_at dksX0_cut_0 9 rfl rfl)
theorem dX0_cut_10 : decode cX0_cut 10 = .ok (.aload_n 0, 1) := dk_42 (dk_at dksX0_cut_0 10 rfl rfl)
theorem dX0_cut_11 : decode cX0_cut 11 = .ok (.getfield 32, 3) := dk_180 0 32 (dk_at dksX0_cut_0 11 rfl rfl)
theorem dX0_cut_14 : decode cX0_cut 14 = .ok (.invokevirtual 124, 3) := dk_182 0 124 (dk_at dksX0_cut_0 14 rfl rfl)
theorem dX0_cut_17 : decode cX0_cut 17 = .ok (.iconst 1, 1) := dk_4 (dk_at dksX0_cut_0 17 rfl rfl)
theorem dX0_cut_18 : decode cX0_cut 18 = .ok (.if_icmp .ne 6, 3) := dk_160 0 6 (dk_at dksX0_cut_0 18 rfl rfl)
theorem dX0_cut_21 : decode cX0_cut 21 = .ok (.bipush (-2), 2) := dk_16 254 (dk_at dksX0_cut_0 21 rfl rfl)
theorem dX0_cut_23 : decode cX0_cut 23 = .ok (.ireturn, 1) := dk_172 (dk_at dksX0_cut_0 23 rfl rfl)
theorem dX0_cut_24 : decode cX0_cut 24 = .ok (.aload_n 0, 1) := dk_42 (dk_at dksX0_cut_1 0 rfl rfl)
theorem dX0_cut_25 : decode cX0_cut 25 = .ok (.invokevirtual 224, 3) := dk_182 0 224 (dk_at dksX0_cut_1 1 rfl rfl)
theorem dX0_cut_28 : decode cX0_cut 28 = .ok (.aload_n 0, 1) := dk_42 (dk_at dksX0_cut_1 4 rfl rfl)
theorem dX0_cut_29 : decode cX0_cut 29 = .ok (.getfield 32, 3) := dk_180 0 32 (dk_at dksX0_cut_1 5 rfl rfl)
theorem dX0_cut_32 : decode cX0_cut 32 = .ok (.iload_n 1, 1) := dk_27 (dk_at dksX0_cut_1 8 rfl rfl)
theorem dX0_cut_33 : decode cX0_cut 33 = .ok (.invokevirtual 230, 3) := dk_182 0 230 (dk_at dksX0_cut_1 9 rfl rfl)
theorem dX0_cut_36 : decode cX0_cut 36 = .ok (.pop, 1) := dk_87 (dk_at dksX0_cut_1 12 rfl rfl)
theorem dX0_cut_37 : decode cX0_cut 37 = .ok (.aload_n 0, 1) := dk_42 (dk_at dksX0_cut_1 13 rfl rfl)
theorem dX0_cut_38 : decode cX0_cut 38 = .ok (.getfield 32, 3) := dk_180 0 32 (dk_at dksX0_cut_1 14 rfl rfl)
theorem dX0_cut_41 : decode cX0_cut 41 = .ok (.invokevirtual 124, 3) := dk_182 0 124 (dk_at dksX0_cut_1 17 rfl rfl)
theorem dX0_cut_44 : decode cX0_cut 44 = .ok (.ireturn, 1) := dk_172 (dk_at dksX0_cut_1 20 rfl rfl)
abbrev cX0_holdOf : ByteArray := prog_1_method_3_code
def yX0_holdOf : MethodName := ⟨RX0, "holdOf", "(LDeadlineTree$Node;)I"⟩
def dkwX0_holdOf_0 : List UInt8 := [42, 180, 0, 1, 172, 76, 16, 252, 172]
abbrev dktX0_holdOf_0 : List UInt8 := dkwX0_holdOf_0 ++ []
theorem dksX0_holdOf_0 : cX0_holdOf.data.toList.drop 0 = dktX0_holdOf_0 := by decide +kernel
theorem dX0_holdOf_0 : decode cX0_holdOf 0 = .ok (.aload_n 0, 1) := dk_42 (dk_at dksX0_holdOf_0 0 rfl rfl)
theorem dX0_holdOf_1 : decode cX0_holdOf 1 = .ok (.getfield 1, 3) := dk_180 0 1 (dk_at dksX0_holdOf_0 1 rfl rfl)
theorem dX0_holdOf_4 : decode cX0_holdOf 4 = .ok (.ireturn, 1) := dk_172 (dk_at dksX0_holdOf_0 4 rfl rfl)
theorem dX0_holdOf_5 : decode cX0_holdOf 5 = .ok (.astore_n 1, 1) := dk_76 (dk_at dksX0_holdOf_0 5 rfl rfl)
theorem dX0_holdOf_6 : decode cX0_holdOf 6 = .ok (.bipush (-4), 2) := dk_16 252 (dk_at dksX0_holdOf_0 6 rfl rfl)
theorem dX0_holdOf_8 : decode cX0_holdOf 8 = .ok (.ireturn, 1) := dk_172 (dk_at dksX0_holdOf_0 8 rfl rfl)
abbrev cX0_delay : ByteArray := prog_1_method_21_code
def yX0_delay : MethodName := ⟨RX0, "delay", "(II)I"⟩
def dkwX0_delay_2 : List UInt8 := [180, 0, 32, 27, 28, 182, 0, 233, 29, 172]
abbrev dktX0_delay_2 : List UInt8 := dkwX0_delay_2 ++ []
def dkwX0_delay_1 : List UInt8 := [180, 0, 32, 180, 0, 171, 27, 51, 62, 29, 28, 160, 0, 6, 16, 254, 172, 42, 182, 0, 224, 42]
abbrev dktX0_delay_1 : List UInt8 := dkwX0_delay_1 ++ dktX0_delay_2
def dkwX0_delay_0 : List UInt8 := [42, 27, 182, 0, 159, 153, 0, 15, 28, 133, 9, 20, 0, 220, 184, 0, 93, 154, 0, 5, 2, 172, 42]
abbrev dktX0_delay_0 : List UInt8 := dkwX0_delay_0 ++ dktX0_delay_1
theorem dksX0_delay_0 : cX0_delay.data.toList.drop 0 = dktX0_delay_0 := by decide +kernel
theorem dksX0_delay_1 : cX0_delay.data.toList.drop 23 = dktX0_delay_1 := dk_seg dksX0_delay_0 23 rfl rfl
theorem dksX0_delay_2 : cX0_delay.data.toList.drop 45 = dktX0_delay_2 := dk_seg dksX0_delay_1 22 rfl rfl
theorem dX0_delay_0 : decode cX0_delay 0 = .ok (.aload_n 0, 1) := dk_42 (dk_at dksX0_delay_0 0 rfl rfl)
theorem dX0_delay_1 : decode cX0_delay 1 = .ok (.iload_n 1, 1) := dk_27 (dk_at dksX0_delay_0 1 rfl rfl)
theorem dX0_delay_2 : decode cX0_delay 2 = .ok (.invokevirtual 159, 3) := dk_182 0 159 (dk_at dksX0_delay_0 2 rfl rfl)
theorem dX0_delay_5 : decode cX0_delay 5 = .ok (.ifCond .eq 15, 3) := dk_153 0 15 (dk_at dksX0_delay_0 5 rfl rfl)
theorem dX0_delay_8 : decode cX0_delay 8 = .ok (.iload_n 2, 1) := dk_28 (dk_at dksX0_delay_0 8 rfl rfl)
theorem dX0_delay_9 : decode cX0_delay 9 = .ok (.i2l, 1) := dk_133 (dk_at dksX0_delay_0 9 rfl rfl)
theorem dX0_delay_10 : decode cX0_delay 10 = .ok (.lconst 0, 1) := dk_9 (dk_at dksX0_delay_0 10 rfl rfl)
theorem dX0_delay_11 : decode cX0_delay 11 = .ok (.ldc2_w 220, 3) := dk_20 0 220 (dk_at dksX0_delay_0 11 rfl rfl)
theorem dX0_delay_14 : decode cX0_delay 14 = .ok (.invokestatic 93, 3) := dk_184 0 93 (dk_at dksX0_delay_0 14 rfl rfl)
theorem dX0_delay_17 : decode cX0_delay 17 = .ok (.ifCond .ne 5, 3) := dk_154 0 5 (dk_at dksX0_delay_0 17 rfl rfl)
theorem dX0_delay_20 : decode cX0_delay 20 = .ok (.iconst (-1), 1) := dk_2 (dk_at dksX0_delay_0 20 rfl rfl)
theorem dX0_delay_21 : decode cX0_delay 21 = .ok (.ireturn, 1) := dk_172 (dk_at dksX0_delay_0 21 rfl rfl)
theorem dX0_delay_22 : decode cX0_delay 22 = .ok (.aload_n 0, 1) := dk_42 (dk_at dksX0_delay_0 22 rfl rfl)
theorem dX0_delay_23 : decode cX0_delay 23 = .ok (.getfield 32, 3) := dk_180 0 32 (dk_at dksX0_delay_1 0 rfl rfl)
theorem dX0_delay_26 : decode cX0_delay 26 = .ok (.getfield 171, 3) := dk_180 0 171 (dk_at dksX0_delay_1 3 rfl rfl)
theorem dX0_delay_29 : decode cX0_delay 29 = .ok (.iload_n 1, 1) := dk_27 (dk_at dksX0_delay_1 6 rfl rfl)
theorem dX0_delay_30 : decode cX0_delay 30 = .ok (.baload, 1) := dk_51 (dk_at dksX0_delay_1 7 rfl rfl)
theorem dX0_delay_31 : decode cX0_delay 31 = .ok (.istore_n 3, 1) := dk_62 (dk_at dksX0_delay_1 8 rfl rfl)
theorem dX0_delay_32 : decode cX0_delay 32 = .ok (.iload_n 3, 1) := dk_29 (dk_at dksX0_delay_1 9 rfl rfl)
theorem dX0_delay_33 : decode cX0_delay 33 = .ok (.iload_n 2, 1) := dk_28 (dk_at dksX0_delay_1 10 rfl rfl)
theorem dX0_delay_34 : decode cX0_delay 34 = .ok (.if_icmp .ne 6, 3) := dk_160 0 6 (dk_at dksX0_delay_1 11 rfl rfl)
theorem dX0_delay_37 : decode cX0_delay 37 = .ok (.bipush (-2), 2) := dk_16 254 (dk_at dksX0_delay_1 14 rfl rfl)
theorem dX0_delay_39 : decode cX0_delay 39 = .ok (.ireturn, 1) := dk_172 (dk_at dksX0_delay_1 16 rfl rfl)
theorem dX0_delay_40 : decode cX0_delay 40 = .ok (.aload_n 0, 1) := dk_42 (dk_at dksX0_delay_1 17 rfl rfl)
theorem dX0_delay_41 : decode cX0_delay 41 = .ok (.invokevirtual 224, 3) := dk_182 0 224 (dk_at dksX0_delay_1 18 rfl rfl)
theorem dX0_delay_44 : decode cX0_delay 44 = .ok (.aload_n 0, 1) := dk_42 (dk_at dksX0_delay_1 21 rfl rfl)
theorem dX0_delay_45 : decode cX0_delay 45 = .ok (.getfield 32, 3) := dk_180 0 32 (dk_at dksX0_delay_2 0 rfl rfl)
theorem dX0_delay_48 : decode cX0_delay 48 = .ok (.iload_n 1, 1) := dk_27 (dk_at dksX0_delay_2 3 rfl rfl)
theorem dX0_delay_49 : decode cX0_delay 49 = .ok (.iload_n 2, 1) := dk_28 (dk_at dksX0_delay_2 4 rfl rfl)
theorem dX0_delay_50 : decode cX0_delay 50 = .ok (.invokevirtual 233, 3) := dk_182 0 233 (dk_at dksX0_delay_2 5 rfl rfl)
theorem dX0_delay_53 : decode cX0_delay 53 = .ok (.iload_n 3, 1) := dk_29 (dk_at dksX0_delay_2 8 rfl rfl)
theorem dX0_delay_54 : decode cX0_delay 54 = .ok (.ireturn, 1) := dk_172 (dk_at dksX0_delay_2 9 rfl rfl)
abbrev cX0_level : ByteArray := prog_1_method_22_code
def yX0_level : MethodName := ⟨RX0, "level", "()I"⟩
def dkwX0_level_0 : List UInt8 := [42, 182, 0, 224, 42, 180, 0, 32, 182, 0, 237, 172]
abbrev dktX0_level_0 : List UInt8 := dkwX0_level_0 ++ []
theorem dksX0_level_0 : cX0_level.data.toList.drop 0 = dktX0_level_0 := by decide +kernel
theorem dX0_level_0 : decode cX0_level 0 = .ok (.aload_n 0, 1) := dk_42 (dk_at dksX0_level_0 0 rfl rfl)
theorem dX0_level_1 : decode cX0_level 1 = .ok (.invokevirtual 224, 3) := dk_182 0 224 (dk_at dksX0_level_0 1 rfl rfl)
theorem dX0_level_4 : decode cX0_level 4 = .ok (.aload_n 0, 1) := dk_42 (dk_at dksX0_level_0 4 rfl rfl)
theorem dX0_level_5 : decode cX0_level 5 = .ok (.getfield 32, 3) := dk_180 0 32 (dk_at dksX0_level_0 5 rfl rfl)
theorem dX0_level_8 : decode cX0_level 8 = .ok (.invokevirtual 237, 3) := dk_182 0 237 (dk_at dksX0_level_0 8 rfl rfl)
theorem dX0_level_11 : decode cX0_level 11 = .ok (.ireturn, 1) := dk_172 (dk_at dksX0_level_0 11 rfl rfl)
abbrev cX0_undo : ByteArray := prog_1_method_23_code
def yX0_undo : MethodName := ⟨RX0, "undo", "()I"⟩
def dkwX0_undo_1 : List UInt8 := [42, 180, 0, 42, 42, 180, 0, 147, 50, 182, 0, 143, 42, 180, 0, 147, 172]
abbrev dktX0_undo_1 : List UInt8 := dkwX0_undo_1 ++ []
def dkwX0_undo_0 : List UInt8 := [42, 180, 0, 147, 154, 0, 6, 16, 254, 172, 42, 89, 180, 0, 147, 4, 100, 181, 0, 147, 42, 180, 0, 32]
abbrev dktX0_undo_0 : List UInt8 := dkwX0_undo_0 ++ dktX0_undo_1
theorem dksX0_undo_0 : cX0_undo.data.toList.drop 0 = dktX0_undo_0 := by decide +kernel
theorem dksX0_undo_1 : cX0_undo.data.toList.drop 24 = dktX0_undo_1 := dk_seg dksX0_undo_0 24 rfl rfl
theorem dX0_undo_0 : decode cX0_undo 0 = .ok (.aload_n 0, 1) := dk_42 (dk_at dksX0_undo_0 0 rfl rfl)
theorem dX0_undo_1 : decode cX0_undo 1 = .ok (.getfield 147, 3) := dk_180 0 147 (dk_at dksX0_undo_0 1 rfl rfl)
theorem dX0_undo_4 : decode cX0_undo 4 = .ok (.ifCond .ne 6, 3) := dk_154 0 6 (dk_at dksX0_undo_0 4 rfl rfl)
theorem dX0_undo_7 : decode cX0_undo 7 = .ok (.bipush (-2), 2) := dk_16 254 (dk_at dksX0_undo_0 7 rfl rfl)
theorem dX0_undo_9 : decode cX0_undo 9 = .ok (.ireturn, 1) := dk_172 (dk_at dksX0_undo_0 9 rfl rfl)
theorem dX0_undo_10 : decode cX0_undo 10 = .ok (.aload_n 0, 1) := dk_42 (dk_at dksX0_undo_0 10 rfl rfl)
theorem dX0_undo_11 : decode cX0_undo 11 = .ok (.dup, 1) := dk_89 (dk_at dksX0_undo_0 11 rfl rfl)
theorem dX0_undo_12 : decode cX0_undo 12 = .ok (.getfield 147, 3) := dk_180 0 147 (dk_at dksX0_undo_0 12 rfl rfl)
theorem dX0_undo_15 : decode cX0_undo 15 = .ok (.iconst 1, 1) := dk_4 (dk_at dksX0_undo_0 15 rfl rfl)
theorem dX0_undo_16 : decode cX0_undo 16 = .ok (.isub, 1) := dk_100 (dk_at dksX0_undo_0 16 rfl rfl)
theorem dX0_undo_17 : decode cX0_undo 17 = .ok (.putfield 147, 3) := dk_181 0 147 (dk_at dksX0_undo_0 17 rfl rfl)
theorem dX0_undo_20 : decode cX0_undo 20 = .ok (.aload_n 0, 1) := dk_42 (dk_at dksX0_undo_0 20 rfl rfl)
theorem dX0_undo_21 : decode cX0_undo 21 = .ok (.getfield 32, 3) := dk_180 0 32 (dk_at dksX0_undo_0 21 rfl rfl)
theorem dX0_undo_24 : decode cX0_undo 24 = .ok (.aload_n 0, 1) := dk_42 (dk_at dksX0_undo_1 0 rfl rfl)
theorem dX0_undo_25 : decode cX0_undo 25 = .ok (.getfield 42, 3) := dk_180 0 42 (dk_at dksX0_undo_1 1 rfl rfl)
theorem dX0_undo_28 : decode cX0_undo 28 = .ok (.aload_n 0, 1) := dk_42 (dk_at dksX0_undo_1 4 rfl rfl)
theorem dX0_undo_29 : decode cX0_undo 29 = .ok (.getfield 147, 3) := dk_180 0 147 (dk_at dksX0_undo_1 5 rfl rfl)
theorem dX0_undo_32 : decode cX0_undo 32 = .ok (.aaload, 1) := dk_50 (dk_at dksX0_undo_1 8 rfl rfl)
theorem dX0_undo_33 : decode cX0_undo 33 = .ok (.invokevirtual 143, 3) := dk_182 0 143 (dk_at dksX0_undo_1 9 rfl rfl)
theorem dX0_undo_36 : decode cX0_undo 36 = .ok (.aload_n 0, 1) := dk_42 (dk_at dksX0_undo_1 12 rfl rfl)
theorem dX0_undo_37 : decode cX0_undo 37 = .ok (.getfield 147, 3) := dk_180 0 147 (dk_at dksX0_undo_1 13 rfl rfl)
theorem dX0_undo_40 : decode cX0_undo 40 = .ok (.ireturn, 1) := dk_172 (dk_at dksX0_undo_1 16 rfl rfl)
abbrev cX0_found : ByteArray := prog_1_method_27_code
def yX0_found : MethodName := ⟨RX0, "found", "(IIII)I"⟩
def dkwX0_found_3 : List UInt8 := [42, 180, 0, 49, 21, 4, 46, 167, 0, 5, 16, 252, 172]
abbrev dktX0_found_3 : List UInt8 := dkwX0_found_3 ++ []
def dkwX0_found_2 : List UInt8 := [167, 0, 36, 21, 4, 156, 0, 10, 42, 180, 0, 243, 167, 0, 24, 21, 4, 42, 180, 0, 243, 162, 0, 13]
abbrev dktX0_found_2 : List UInt8 := dkwX0_found_2 ++ dktX0_found_3
def dkwX0_found_1 : List UInt8 := [162, 0, 5, 2, 172, 42, 27, 28, 29, 182, 0, 255, 21, 4, 16, 254, 160, 0, 10, 42, 180, 0, 240]
abbrev dktX0_found_1 : List UInt8 := dkwX0_found_1 ++ dktX0_found_2
def dkwX0_found_0 : List UInt8 := [27, 28, 184, 0, 250, 153, 0, 22, 29, 133, 9, 20, 0, 253, 184, 0, 93, 153, 0, 10, 21, 4, 16, 254]
abbrev dktX0_found_0 : List UInt8 := dkwX0_found_0 ++ dktX0_found_1
theorem dksX0_found_0 : cX0_found.data.toList.drop 0 = dktX0_found_0 := by decide +kernel
theorem dksX0_found_1 : cX0_found.data.toList.drop 24 = dktX0_found_1 := dk_seg dksX0_found_0 24 rfl rfl
theorem dksX0_found_2 : cX0_found.data.toList.drop 47 = dktX0_found_2 := dk_seg dksX0_found_1 23 rfl rfl
theorem dksX0_found_3 : cX0_found.data.toList.drop 71 = dktX0_found_3 := dk_seg dksX0_found_2 24 rfl rfl
theorem dX0_found_0 : decode cX0_found 0 = .ok (.iload_n 1, 1) := dk_27 (dk_at dksX0_found_0 0 rfl rfl)
theorem dX0_found_1 : decode cX0_found 1 = .ok (.iload_n 2, 1) := dk_28 (dk_at dksX0_found_0 1 rfl rfl)
theorem dX0_found_2 : decode cX0_found 2 = .ok (.invokestatic 250, 3) := dk_184 0 250 (dk_at dksX0_found_0 2 rfl rfl)
theorem dX0_found_5 : decode cX0_found 5 = .ok (.ifCond .eq 22, 3) := dk_153 0 22 (dk_at dksX0_found_0 5 rfl rfl)
theorem dX0_found_8 : decode cX0_found 8 = .ok (.iload_n 3, 1) := dk_29 (dk_at dksX0_found_0 8 rfl rfl)
theorem dX0_found_9 : decode cX0_found 9 = .ok (.i2l, 1) := dk_133 (dk_at dksX0_found_0 9 rfl rfl)
theorem dX0_found_10 : decode cX0_found 10 = .ok (.lconst 0, 1) := dk_9 (dk_at dksX0_found_0 10 rfl rfl)
theorem dX0_found_11 : decode cX0_found 11 = .ok (.ldc2_w 253, 3) := dk_20 0 253 (dk_at dksX0_found_0 11 rfl rfl)
theorem dX0_found_14 : decode cX0_found 14 = .ok (.invokestatic 93, 3) := dk_184 0 93 (dk_at dksX0_found_0 14 rfl rfl)
theorem dX0_found_17 : decode cX0_found 17 = .ok (.ifCond .eq 10, 3) := dk_153 0 10 (dk_at dksX0_found_0 17 rfl rfl)
theorem dX0_found_20 : decode cX0_found 20 = .ok (.iload 4, 2) := dk_21 4 (dk_at dksX0_found_0 20 rfl rfl)
theorem dX0_found_22 : decode cX0_found 22 = .ok (.bipush (-2), 2) := dk_16 254 (dk_at dksX0_found_0 22 rfl rfl)
theorem dX0_found_24 : decode cX0_found 24 = .ok (.if_icmp .ge 5, 3) := dk_162 0 5 (dk_at dksX0_found_1 0 rfl rfl)
theorem dX0_found_27 : decode cX0_found 27 = .ok (.iconst (-1), 1) := dk_2 (dk_at dksX0_found_1 3 rfl rfl)
theorem dX0_found_28 : decode cX0_found 28 = .ok (.ireturn, 1) := dk_172 (dk_at dksX0_found_1 4 rfl rfl)
theorem dX0_found_29 : decode cX0_found 29 = .ok (.aload_n 0, 1) := dk_42 (dk_at dksX0_found_1 5 rfl rfl)
theorem dX0_found_30 : decode cX0_found 30 = .ok (.iload_n 1, 1) := dk_27 (dk_at dksX0_found_1 6 rfl rfl)
theorem dX0_found_31 : decode cX0_found 31 = .ok (.iload_n 2, 1) := dk_28 (dk_at dksX0_found_1 7 rfl rfl)
theorem dX0_found_32 : decode cX0_found 32 = .ok (.iload_n 3, 1) := dk_29 (dk_at dksX0_found_1 8 rfl rfl)
theorem dX0_found_33 : decode cX0_found 33 = .ok (.invokevirtual 255, 3) := dk_182 0 255 (dk_at dksX0_found_1 9 rfl rfl)
theorem dX0_found_36 : decode cX0_found 36 = .ok (.iload 4, 2) := dk_21 4 (dk_at dksX0_found_1 12 rfl rfl)
theorem dX0_found_38 : decode cX0_found 38 = .ok (.bipush (-2), 2) := dk_16 254 (dk_at dksX0_found_1 14 rfl rfl)
theorem dX0_found_40 : decode cX0_found 40 = .ok (.if_icmp .ne 10, 3) := dk_160 0 10 (dk_at dksX0_found_1 16 rfl rfl)
theorem dX0_found_43 : decode cX0_found 43 = .ok (.aload_n 0, 1) := dk_42 (dk_at dksX0_found_1 19 rfl rfl)
theorem dX0_found_44 : decode cX0_found 44 = .ok (.getfield 240, 3) := dk_180 0 240 (dk_at dksX0_found_1 20 rfl rfl)
theorem dX0_found_47 : decode cX0_found 47 = .ok (.goto 36, 3) := dk_167 0 36 (dk_at dksX0_found_2 0 rfl rfl)
theorem dX0_found_50 : decode cX0_found 50 = .ok (.iload 4, 2) := dk_21 4 (dk_at dksX0_found_2 3 rfl rfl)
theorem dX0_found_52 : decode cX0_found 52 = .ok (.ifCond .ge 10, 3) := dk_156 0 10 (dk_at dksX0_found_2 5 rfl rfl)
theorem dX0_found_55 : decode cX0_found 55 = .ok (.aload_n 0, 1) := dk_42 (dk_at dksX0_found_2 8 rfl rfl)
theorem dX0_found_56 : decode cX0_found 56 = .ok (.getfield 243, 3) := dk_180 0 243 (dk_at dksX0_found_2 9 rfl rfl)
theorem dX0_found_59 : decode cX0_found 59 = .ok (.goto 24, 3) := dk_167 0 24 (dk_at dksX0_found_2 12 rfl rfl)
theorem dX0_found_62 : decode cX0_found 62 = .ok (.iload 4, 2) := dk_21 4 (dk_at dksX0_found_2 15 rfl rfl)
theorem dX0_found_64 : decode cX0_found 64 = .ok (.aload_n 0, 1) := dk_42 (dk_at dksX0_found_2 17 rfl rfl)
theorem dX0_found_65 : decode cX0_found 65 = .ok (.getfield 243, 3) := dk_180 0 243 (dk_at dksX0_found_2 18 rfl rfl)
theorem dX0_found_68 : decode cX0_found 68 = .ok (.if_icmp .ge 13, 3) := dk_162 0 13 (dk_at dksX0_found_2 21 rfl rfl)
theorem dX0_found_71 : decode cX0_found 71 = .ok (.aload_n 0, 1) := dk_42 (dk_at dksX0_found_3 0 rfl rfl)
theorem dX0_found_72 : decode cX0_found 72 = .ok (.getfield 49, 3) := dk_180 0 49 (dk_at dksX0_found_3 1 rfl rfl)
theorem dX0_found_75 : decode cX0_found 75 = .ok (.iload 4, 2) := dk_21 4 (dk_at dksX0_found_3 4 rfl rfl)
theorem dX0_found_77 : decode cX0_found 77 = .ok (.iaload, 1) := dk_46 (dk_at dksX0_found_3 6 rfl rfl)
theorem dX0_found_78 : decode cX0_found 78 = .ok (.goto 5, 3) := dk_167 0 5 (dk_at dksX0_found_3 7 rfl rfl)
theorem dX0_found_81 : decode cX0_found 81 = .ok (.bipush (-4), 2) := dk_16 252 (dk_at dksX0_found_3 10 rfl rfl)
theorem dX0_found_83 : decode cX0_found 83 = .ok (.ireturn, 1) := dk_172 (dk_at dksX0_found_3 12 rfl rfl)
abbrev cX0_areStarts : ByteArray := prog_1_method_25_code
def yX0_areStarts : MethodName := ⟨RX0, "areStarts", "(II)Z"⟩
def dkwX0_areStarts_1 : List UInt8 := [153, 0, 7, 4, 167, 0, 4, 3, 172]
abbrev dktX0_areStarts_1 : List UInt8 := dkwX0_areStarts_1 ++ []
def dkwX0_areStarts_0 : List UInt8 := [26, 133, 9, 20, 0, 220, 184, 0, 93, 153, 0, 20, 27, 133, 26, 133, 20, 0, 220, 184, 0, 93]
abbrev dktX0_areStarts_0 : List UInt8 := dkwX0_areStarts_0 ++ dktX0_areStarts_1
theorem dksX0_areStarts_0 : cX0_areStarts.data.toList.drop 0 = dktX0_areStarts_0 := by decide +kernel
theorem dksX0_areStarts_1 : cX0_areStarts.data.toList.drop 22 = dktX0_areStarts_1 := dk_seg dksX0_areStarts_0 22 rfl rfl
theorem dX0_areStarts_0 : decode cX0_areStarts 0 = .ok (.iload_n 0, 1) := dk_26 (dk_at dksX0_areStarts_0 0 rfl rfl)
theorem dX0_areStarts_1 : decode cX0_areStarts 1 = .ok (.i2l, 1) := dk_133 (dk_at dksX0_areStarts_0 1 rfl rfl)
theorem dX0_areStarts_2 : decode cX0_areStarts 2 = .ok (.lconst 0, 1) := dk_9 (dk_at dksX0_areStarts_0 2 rfl rfl)
theorem dX0_areStarts_3 : decode cX0_areStarts 3 = .ok (.ldc2_w 220, 3) := dk_20 0 220 (dk_at dksX0_areStarts_0 3 rfl rfl)
theorem dX0_areStarts_6 : decode cX0_areStarts 6 = .ok (.invokestatic 93, 3) := dk_184 0 93 (dk_at dksX0_areStarts_0 6 rfl rfl)
theorem dX0_areStarts_9 : decode cX0_areStarts 9 = .ok (.ifCond .eq 20, 3) := dk_153 0 20 (dk_at dksX0_areStarts_0 9 rfl rfl)
theorem dX0_areStarts_12 : decode cX0_areStarts 12 = .ok (.iload_n 1, 1) := dk_27 (dk_at dksX0_areStarts_0 12 rfl rfl)
theorem dX0_areStarts_13 : decode cX0_areStarts 13 = .ok (.i2l, 1) := dk_133 (dk_at dksX0_areStarts_0 13 rfl rfl)
theorem dX0_areStarts_14 : decode cX0_areStarts 14 = .ok (.iload_n 0, 1) := dk_26 (dk_at dksX0_areStarts_0 14 rfl rfl)
theorem dX0_areStarts_15 : decode cX0_areStarts 15 = .ok (.i2l, 1) := dk_133 (dk_at dksX0_areStarts_0 15 rfl rfl)
theorem dX0_areStarts_16 : decode cX0_areStarts 16 = .ok (.ldc2_w 220, 3) := dk_20 0 220 (dk_at dksX0_areStarts_0 16 rfl rfl)
theorem dX0_areStarts_19 : decode cX0_areStarts 19 = .ok (.invokestatic 93, 3) := dk_184 0 93 (dk_at dksX0_areStarts_0 19 rfl rfl)
theorem dX0_areStarts_22 : decode cX0_areStarts 22 = .ok (.ifCond .eq 7, 3) := dk_153 0 7 (dk_at dksX0_areStarts_1 0 rfl rfl)
theorem dX0_areStarts_25 : decode cX0_areStarts 25 = .ok (.iconst 1, 1) := dk_4 (dk_at dksX0_areStarts_1 3 rfl rfl)
theorem dX0_areStarts_26 : decode cX0_areStarts 26 = .ok (.goto 4, 3) := dk_167 0 4 (dk_at dksX0_areStarts_1 4 rfl rfl)
theorem dX0_areStarts_29 : decode cX0_areStarts 29 = .ok (.iconst 0, 1) := dk_3 (dk_at dksX0_areStarts_1 7 rfl rfl)
theorem dX0_areStarts_30 : decode cX0_areStarts 30 = .ok (.ireturn, 1) := dk_172 (dk_at dksX0_areStarts_1 8 rfl rfl)
abbrev cX0_find : ByteArray := prog_1_method_26_code
def yX0_find : MethodName := ⟨RX0, "find", "(III)V"⟩
def dkwX0_find_1 : List UInt8 := [177]
abbrev dktX0_find_1 : List UInt8 := dkwX0_find_1 ++ []
def dkwX0_find_0 : List UInt8 := [42, 3, 181, 0, 240, 42, 3, 181, 0, 243, 42, 42, 180, 0, 32, 180, 0, 180, 27, 28, 29, 182, 0, 246]
abbrev dktX0_find_0 : List UInt8 := dkwX0_find_0 ++ dktX0_find_1
theorem dksX0_find_0 : cX0_find.data.toList.drop 0 = dktX0_find_0 := by decide +kernel
theorem dksX0_find_1 : cX0_find.data.toList.drop 24 = dktX0_find_1 := dk_seg dksX0_find_0 24 rfl rfl
theorem dX0_find_0 : decode cX0_find 0 = .ok (.aload_n 0, 1) := dk_42 (dk_at dksX0_find_0 0 rfl rfl)
theorem dX0_find_1 : decode cX0_find 1 = .ok (.iconst 0, 1) := dk_3 (dk_at dksX0_find_0 1 rfl rfl)
theorem dX0_find_2 : decode cX0_find 2 = .ok (.putfield 240, 3) := dk_181 0 240 (dk_at dksX0_find_0 2 rfl rfl)
theorem dX0_find_5 : decode cX0_find 5 = .ok (.aload_n 0, 1) := dk_42 (dk_at dksX0_find_0 5 rfl rfl)
theorem dX0_find_6 : decode cX0_find 6 = .ok (.iconst 0, 1) := dk_3 (dk_at dksX0_find_0 6 rfl rfl)
theorem dX0_find_7 : decode cX0_find 7 = .ok (.putfield 243, 3) := dk_181 0 243 (dk_at dksX0_find_0 7 rfl rfl)
theorem dX0_find_10 : decode cX0_find 10 = .ok (.aload_n 0, 1) := dk_42 (dk_at dksX0_find_0 10 rfl rfl)
theorem dX0_find_11 : decode cX0_find 11 = .ok (.aload_n 0, 1) := dk_42 (dk_at dksX0_find_0 11 rfl rfl)
theorem dX0_find_12 : decode cX0_find 12 = .ok (.getfield 32, 3) := dk_180 0 32 (dk_at dksX0_find_0 12 rfl rfl)
theorem dX0_find_15 : decode cX0_find 15 = .ok (.getfield 180, 3) := dk_180 0 180 (dk_at dksX0_find_0 15 rfl rfl)
theorem dX0_find_18 : decode cX0_find 18 = .ok (.iload_n 1, 1) := dk_27 (dk_at dksX0_find_0 18 rfl rfl)
theorem dX0_find_19 : decode cX0_find 19 = .ok (.iload_n 2, 1) := dk_28 (dk_at dksX0_find_0 19 rfl rfl)
theorem dX0_find_20 : decode cX0_find 20 = .ok (.iload_n 3, 1) := dk_29 (dk_at dksX0_find_0 20 rfl rfl)
theorem dX0_find_21 : decode cX0_find 21 = .ok (.invokevirtual 246, 3) := dk_182 0 246 (dk_at dksX0_find_0 21 rfl rfl)
theorem dX0_find_24 : decode cX0_find 24 = .ok (.return_, 1) := dk_177 (dk_at dksX0_find_1 0 rfl rfl)
abbrev cX0_look : ByteArray := prog_1_method_24_code
def yX0_look : MethodName := ⟨RX0, "look", "(LDeadlineTree$Node;III)V"⟩
def dkwX0_look_5 : List UInt8 := [163, 0, 15, 42, 43, 180, 0, 200, 28, 29, 21, 4, 182, 0, 246, 177]
abbrev dktX0_look_5 : List UInt8 := dkwX0_look_5 ++ []
def dkwX0_look_4 : List UInt8 := [43, 180, 0, 203, 28, 29, 21, 4, 182, 0, 246, 43, 182, 0, 184, 154, 0, 23, 43, 180, 0, 206, 29]
abbrev dktX0_look_4 : List UInt8 := dkwX0_look_4 ++ dktX0_look_5
def dkwX0_look_3 : List UInt8 := [180, 0, 243, 4, 96, 181, 0, 243, 43, 182, 0, 184, 154, 0, 23, 43, 180, 0, 206, 28, 161, 0, 15, 42]
abbrev dktX0_look_3 : List UInt8 := dkwX0_look_3 ++ dktX0_look_4
def dkwX0_look_2 : List UInt8 := [133, 28, 133, 29, 133, 184, 0, 93, 153, 0, 24, 42, 180, 0, 49, 42, 180, 0, 243, 21, 5, 79, 42, 89]
abbrev dktX0_look_2 : List UInt8 := dkwX0_look_2 ++ dktX0_look_3
def dkwX0_look_1 : List UInt8 := [180, 0, 32, 21, 5, 182, 0, 177, 21, 4, 164, 0, 4, 177, 42, 180, 0, 32, 180, 0, 168, 21, 5, 51]
abbrev dktX0_look_1 : List UInt8 := dkwX0_look_1 ++ dktX0_look_2
def dkwX0_look_0 : List UInt8 := [42, 89, 180, 0, 240, 4, 96, 181, 0, 240, 43, 180, 0, 1, 54, 5, 21, 5, 16, 252, 159, 0, 17, 42]
abbrev dktX0_look_0 : List UInt8 := dkwX0_look_0 ++ dktX0_look_1
theorem dksX0_look_0 : cX0_look.data.toList.drop 0 = dktX0_look_0 := by decide +kernel
theorem dksX0_look_1 : cX0_look.data.toList.drop 24 = dktX0_look_1 := dk_seg dksX0_look_0 24 rfl rfl
theorem dksX0_look_2 : cX0_look.data.toList.drop 48 = dktX0_look_2 := dk_seg dksX0_look_1 24 rfl rfl
theorem dksX0_look_3 : cX0_look.data.toList.drop 72 = dktX0_look_3 := dk_seg dksX0_look_2 24 rfl rfl
theorem dksX0_look_4 : cX0_look.data.toList.drop 96 = dktX0_look_4 := dk_seg dksX0_look_3 24 rfl rfl
theorem dksX0_look_5 : cX0_look.data.toList.drop 119 = dktX0_look_5 := dk_seg dksX0_look_4 23 rfl rfl
theorem dX0_look_0 : decode cX0_look 0 = .ok (.aload_n 0, 1) := dk_42 (dk_at dksX0_look_0 0 rfl rfl)
theorem dX0_look_1 : decode cX0_look 1 = .ok (.dup, 1) := dk_89 (dk_at dksX0_look_0 1 rfl rfl)
theorem dX0_look_2 : decode cX0_look 2 = .ok (.getfield 240, 3) := dk_180 0 240 (dk_at dksX0_look_0 2 rfl rfl)
theorem dX0_look_5 : decode cX0_look 5 = .ok (.iconst 1, 1) := dk_4 (dk_at dksX0_look_0 5 rfl rfl)
theorem dX0_look_6 : decode cX0_look 6 = .ok (.iadd, 1) := dk_96 (dk_at dksX0_look_0 6 rfl rfl)
theorem dX0_look_7 : decode cX0_look 7 = .ok (.putfield 240, 3) := dk_181 0 240 (dk_at dksX0_look_0 7 rfl rfl)
theorem dX0_look_10 : decode cX0_look 10 = .ok (.aload_n 1, 1) := dk_43 (dk_at dksX0_look_0 10 rfl rfl)
theorem dX0_look_11 : decode cX0_look 11 = .ok (.getfield 1, 3) := dk_180 0 1 (dk_at dksX0_look_0 11 rfl rfl)
theorem dX0_look_14 : decode cX0_look 14 = .ok (.istore 5, 2) := dk_54 5 (dk_at dksX0_look_0 14 rfl rfl)
theorem dX0_look_16 : decode cX0_look 16 = .ok (.iload 5, 2) := dk_21 5 (dk_at dksX0_look_0 16 rfl rfl)
theorem dX0_look_18 : decode cX0_look 18 = .ok (.bipush (-4), 2) := dk_16 252 (dk_at dksX0_look_0 18 rfl rfl)
theorem dX0_look_20 : decode cX0_look 20 = .ok (.if_icmp .eq 17, 3) := dk_159 0 17 (dk_at dksX0_look_0 20 rfl rfl)
theorem dX0_look_23 : decode cX0_look 23 = .ok (.aload_n 0, 1) := dk_42 (dk_at dksX0_look_0 23 rfl rfl)
theorem dX0_look_24 : decode cX0_look 24 = .ok (.getfield 32, 3) := dk_180 0 32 (dk_at dksX0_look_1 0 rfl rfl)
theorem dX0_look_27 : decode cX0_look 27 = .ok (.iload 5, 2) := dk_21 5 (dk_at dksX0_look_1 3 rfl rfl)
theorem dX0_look_29 : decode cX0_look 29 = .ok (.invokevirtual 177, 3) := dk_182 0 177 (dk_at dksX0_look_1 5 rfl rfl)
theorem dX0_look_32 : decode cX0_look 32 = .ok (.iload 4, 2) := dk_21 4 (dk_at dksX0_look_1 8 rfl rfl)
theorem dX0_look_34 : decode cX0_look 34 = .ok (.if_icmp .le 4, 3) := dk_164 0 4 (dk_at dksX0_look_1 10 rfl rfl)
theorem dX0_look_37 : decode cX0_look 37 = .ok (.return_, 1) := dk_177 (dk_at dksX0_look_1 13 rfl rfl)
theorem dX0_look_38 : decode cX0_look 38 = .ok (.aload_n 0, 1) := dk_42 (dk_at dksX0_look_1 14 rfl rfl)
theorem dX0_look_39 : decode cX0_look 39 = .ok (.getfield 32, 3) := dk_180 0 32 (dk_at dksX0_look_1 15 rfl rfl)
theorem dX0_look_42 : decode cX0_look 42 = .ok (.getfield 168, 3) := dk_180 0 168 (dk_at dksX0_look_1 18 rfl rfl)
theorem dX0_look_45 : decode cX0_look 45 = .ok (.iload 5, 2) := dk_21 5 (dk_at dksX0_look_1 21 rfl rfl)
theorem dX0_look_47 : decode cX0_look 47 = .ok (.baload, 1) := dk_51 (dk_at dksX0_look_1 23 rfl rfl)
theorem dX0_look_48 : decode cX0_look 48 = .ok (.i2l, 1) := dk_133 (dk_at dksX0_look_2 0 rfl rfl)
theorem dX0_look_49 : decode cX0_look 49 = .ok (.iload_n 2, 1) := dk_28 (dk_at dksX0_look_2 1 rfl rfl)
theorem dX0_look_50 : decode cX0_look 50 = .ok (.i2l, 1) := dk_133 (dk_at dksX0_look_2 2 rfl rfl)
theorem dX0_look_51 : decode cX0_look 51 = .ok (.iload_n 3, 1) := dk_29 (dk_at dksX0_look_2 3 rfl rfl)
theorem dX0_look_52 : decode cX0_look 52 = .ok (.i2l, 1) := dk_133 (dk_at dksX0_look_2 4 rfl rfl)
theorem dX0_look_53 : decode cX0_look 53 = .ok (.invokestatic 93, 3) := dk_184 0 93 (dk_at dksX0_look_2 5 rfl rfl)
theorem dX0_look_56 : decode cX0_look 56 = .ok (.ifCond .eq 24, 3) := dk_153 0 24 (dk_at dksX0_look_2 8 rfl rfl)
theorem dX0_look_59 : decode cX0_look 59 = .ok (.aload_n 0, 1) := dk_42 (dk_at dksX0_look_2 11 rfl rfl)
theorem dX0_look_60 : decode cX0_look 60 = .ok (.getfield 49, 3) := dk_180 0 49 (dk_at dksX0_look_2 12 rfl rfl)
theorem dX0_look_63 : decode cX0_look 63 = .ok (.aload_n 0, 1) := dk_42 (dk_at dksX0_look_2 15 rfl rfl)
theorem dX0_look_64 : decode cX0_look 64 = .ok (.getfield 243, 3) := dk_180 0 243 (dk_at dksX0_look_2 16 rfl rfl)
theorem dX0_look_67 : decode cX0_look 67 = .ok (.iload 5, 2) := dk_21 5 (dk_at dksX0_look_2 19 rfl rfl)
theorem dX0_look_69 : decode cX0_look 69 = .ok (.iastore, 1) := dk_79 (dk_at dksX0_look_2 21 rfl rfl)
theorem dX0_look_70 : decode cX0_look 70 = .ok (.aload_n 0, 1) := dk_42 (dk_at dksX0_look_2 22 rfl rfl)
theorem dX0_look_71 : decode cX0_look 71 = .ok (.dup, 1) := dk_89 (dk_at dksX0_look_2 23 rfl rfl)
theorem dX0_look_72 : decode cX0_look 72 = .ok (.getfield 243, 3) := dk_180 0 243 (dk_at dksX0_look_3 0 rfl rfl)
theorem dX0_look_75 : decode cX0_look 75 = .ok (.iconst 1, 1) := dk_4 (dk_at dksX0_look_3 3 rfl rfl)
theorem dX0_look_76 : decode cX0_look 76 = .ok (.iadd, 1) := dk_96 (dk_at dksX0_look_3 4 rfl rfl)
theorem dX0_look_77 : decode cX0_look 77 = .ok (.putfield 243, 3) := dk_181 0 243 (dk_at dksX0_look_3 5 rfl rfl)
theorem dX0_look_80 : decode cX0_look 80 = .ok (.aload_n 1, 1) := dk_43 (dk_at dksX0_look_3 8 rfl rfl)
theorem dX0_look_81 : decode cX0_look 81 = .ok (.invokevirtual 184, 3) := dk_182 0 184 (dk_at dksX0_look_3 9 rfl rfl)
theorem dX0_look_84 : decode cX0_look 84 = .ok (.ifCond .ne 23, 3) := dk_154 0 23 (dk_at dksX0_look_3 12 rfl rfl)
theorem dX0_look_87 : decode cX0_look 87 = .ok (.aload_n 1, 1) := dk_43 (dk_at dksX0_look_3 15 rfl rfl)
theorem dX0_look_88 : decode cX0_look 88 = .ok (.getfield 206, 3) := dk_180 0 206 (dk_at dksX0_look_3 16 rfl rfl)
theorem dX0_look_91 : decode cX0_look 91 = .ok (.iload_n 2, 1) := dk_28 (dk_at dksX0_look_3 19 rfl rfl)
theorem dX0_look_92 : decode cX0_look 92 = .ok (.if_icmp .lt 15, 3) := dk_161 0 15 (dk_at dksX0_look_3 20 rfl rfl)
theorem dX0_look_95 : decode cX0_look 95 = .ok (.aload_n 0, 1) := dk_42 (dk_at dksX0_look_3 23 rfl rfl)
theorem dX0_look_96 : decode cX0_look 96 = .ok (.aload_n 1, 1) := dk_43 (dk_at dksX0_look_4 0 rfl rfl)
theorem dX0_look_97 : decode cX0_look 97 = .ok (.getfield 203, 3) := dk_180 0 203 (dk_at dksX0_look_4 1 rfl rfl)
theorem dX0_look_100 : decode cX0_look 100 = .ok (.iload_n 2, 1) := dk_28 (dk_at dksX0_look_4 4 rfl rfl)
theorem dX0_look_101 : decode cX0_look 101 = .ok (.iload_n 3, 1) := dk_29 (dk_at dksX0_look_4 5 rfl rfl)
theorem dX0_look_102 : decode cX0_look 102 = .ok (.iload 4, 2) := dk_21 4 (dk_at dksX0_look_4 6 rfl rfl)
theorem dX0_look_104 : decode cX0_look 104 = .ok (.invokevirtual 246, 3) := dk_182 0 246 (dk_at dksX0_look_4 8 rfl rfl)
theorem dX0_look_107 : decode cX0_look 107 = .ok (.aload_n 1, 1) := dk_43 (dk_at dksX0_look_4 11 rfl rfl)
theorem dX0_look_108 : decode cX0_look 108 = .ok (.invokevirtual 184, 3) := dk_182 0 184 (dk_at dksX0_look_4 12 rfl rfl)
theorem dX0_look_111 : decode cX0_look 111 = .ok (.ifCond .ne 23, 3) := dk_154 0 23 (dk_at dksX0_look_4 15 rfl rfl)
theorem dX0_look_114 : decode cX0_look 114 = .ok (.aload_n 1, 1) := dk_43 (dk_at dksX0_look_4 18 rfl rfl)
theorem dX0_look_115 : decode cX0_look 115 = .ok (.getfield 206, 3) := dk_180 0 206 (dk_at dksX0_look_4 19 rfl rfl)
theorem dX0_look_118 : decode cX0_look 118 = .ok (.iload_n 3, 1) := dk_29 (dk_at dksX0_look_4 22 rfl rfl)
theorem dX0_look_119 : decode cX0_look 119 = .ok (.if_icmp .gt 15, 3) := dk_163 0 15 (dk_at dksX0_look_5 0 rfl rfl)
theorem dX0_look_122 : decode cX0_look 122 = .ok (.aload_n 0, 1) := dk_42 (dk_at dksX0_look_5 3 rfl rfl)
theorem dX0_look_123 : decode cX0_look 123 = .ok (.aload_n 1, 1) := dk_43 (dk_at dksX0_look_5 4 rfl rfl)
theorem dX0_look_124 : decode cX0_look 124 = .ok (.getfield 200, 3) := dk_180 0 200 (dk_at dksX0_look_5 5 rfl rfl)
theorem dX0_look_127 : decode cX0_look 127 = .ok (.iload_n 2, 1) := dk_28 (dk_at dksX0_look_5 8 rfl rfl)
theorem dX0_look_128 : decode cX0_look 128 = .ok (.iload_n 3, 1) := dk_29 (dk_at dksX0_look_5 9 rfl rfl)
theorem dX0_look_129 : decode cX0_look 129 = .ok (.iload 4, 2) := dk_21 4 (dk_at dksX0_look_5 10 rfl rfl)
theorem dX0_look_131 : decode cX0_look 131 = .ok (.invokevirtual 246, 3) := dk_182 0 246 (dk_at dksX0_look_5 12 rfl rfl)
theorem dX0_look_134 : decode cX0_look 134 = .ok (.return_, 1) := dk_177 (dk_at dksX0_look_5 15 rfl rfl)
abbrev cX0_first : ByteArray := prog_1_method_28_code
def yX0_first : MethodName := ⟨RX0, "first", "(III)I"⟩
def dkwX0_first_5 : List UInt8 := [160, 0, 11, 42, 180, 0, 49, 21, 4, 46, 172, 132, 4, 1, 167, 255, 159, 16, 252, 172]
abbrev dktX0_first_5 : List UInt8 := dkwX0_first_5 ++ []
def dkwX0_first_4 : List UInt8 := [3, 96, 54, 5, 21, 5, 29, 164, 0, 6, 167, 0, 23, 132, 6, 1, 167, 255, 194, 21, 5, 29]
abbrev dktX0_first_4 : List UInt8 := dkwX0_first_4 ++ dktX0_first_5
def dkwX0_first_3 : List UInt8 := [42, 180, 0, 49, 21, 6, 46, 42, 180, 0, 49, 21, 4, 46, 182, 1, 3, 153, 0, 7, 4, 167, 0, 4]
abbrev dktX0_first_3 : List UInt8 := dkwX0_first_3 ++ dktX0_first_4
def dkwX0_first_2 : List UInt8 := [54, 6, 21, 6, 42, 180, 0, 243, 162, 0, 59, 21, 5, 21, 6, 21, 4, 159, 0, 31, 42, 180, 0, 32]
abbrev dktX0_first_2 : List UInt8 := dkwX0_first_2 ++ dktX0_first_3
def dkwX0_first_1 : List UInt8 := [28, 17, 0, 200, 182, 0, 255, 3, 54, 4, 21, 4, 42, 180, 0, 243, 162, 0, 94, 3, 54, 5, 3]
abbrev dktX0_first_1 : List UInt8 := dkwX0_first_1 ++ dktX0_first_2
def dkwX0_first_0 : List UInt8 := [27, 28, 184, 0, 250, 153, 0, 15, 29, 133, 9, 20, 0, 153, 184, 0, 93, 154, 0, 5, 2, 172, 42, 27]
abbrev dktX0_first_0 : List UInt8 := dkwX0_first_0 ++ dktX0_first_1
theorem dksX0_first_0 : cX0_first.data.toList.drop 0 = dktX0_first_0 := by decide +kernel
theorem dksX0_first_1 : cX0_first.data.toList.drop 24 = dktX0_first_1 := dk_seg dksX0_first_0 24 rfl rfl
theorem dksX0_first_2 : cX0_first.data.toList.drop 47 = dktX0_first_2 := dk_seg dksX0_first_1 23 rfl rfl
theorem dksX0_first_3 : cX0_first.data.toList.drop 71 = dktX0_first_3 := dk_seg dksX0_first_2 24 rfl rfl
theorem dksX0_first_4 : cX0_first.data.toList.drop 95 = dktX0_first_4 := dk_seg dksX0_first_3 24 rfl rfl
theorem dksX0_first_5 : cX0_first.data.toList.drop 117 = dktX0_first_5 := dk_seg dksX0_first_4 22 rfl rfl
theorem dX0_first_0 : decode cX0_first 0 = .ok (.iload_n 1, 1) := dk_27 (dk_at dksX0_first_0 0 rfl rfl)
theorem dX0_first_1 : decode cX0_first 1 = .ok (.iload_n 2, 1) := dk_28 (dk_at dksX0_first_0 1 rfl rfl)
theorem dX0_first_2 : decode cX0_first 2 = .ok (.invokestatic 250, 3) := dk_184 0 250 (dk_at dksX0_first_0 2 rfl rfl)
theorem dX0_first_5 : decode cX0_first 5 = .ok (.ifCond .eq 15, 3) := dk_153 0 15 (dk_at dksX0_first_0 5 rfl rfl)
theorem dX0_first_8 : decode cX0_first 8 = .ok (.iload_n 3, 1) := dk_29 (dk_at dksX0_first_0 8 rfl rfl)
theorem dX0_first_9 : decode cX0_first 9 = .ok (.i2l, 1) := dk_133 (dk_at dksX0_first_0 9 rfl rfl)
theorem dX0_first_10 : decode cX0_first 10 = .ok (.lconst 0, 1) := dk_9 (dk_at dksX0_first_0 10 rfl rfl)
theorem dX0_first_11 : decode cX0_first 11 = .ok (.ldc2_w 153, 3) := dk_20 0 153 (dk_at dksX0_first_0 11 rfl rfl)
theorem dX0_first_14 : decode cX0_first 14 = .ok (.invokestatic 93, 3) := dk_184 0 93 (dk_at dksX0_first_0 14 rfl rfl)
theorem dX0_first_17 : decode cX0_first 17 = .ok (.ifCond .ne 5, 3) := dk_154 0 5 (dk_at dksX0_first_0 17 rfl rfl)
theorem dX0_first_20 : decode cX0_first 20 = .ok (.iconst (-1), 1) := dk_2 (dk_at dksX0_first_0 20 rfl rfl)
theorem dX0_first_21 : decode cX0_first 21 = .ok (.ireturn, 1) := dk_172 (dk_at dksX0_first_0 21 rfl rfl)
theorem dX0_first_22 : decode cX0_first 22 = .ok (.aload_n 0, 1) := dk_42 (dk_at dksX0_first_0 22 rfl rfl)
theorem dX0_first_23 : decode cX0_first 23 = .ok (.iload_n 1, 1) := dk_27 (dk_at dksX0_first_0 23 rfl rfl)
theorem dX0_first_24 : decode cX0_first 24 = .ok (.iload_n 2, 1) := dk_28 (dk_at dksX0_first_1 0 rfl rfl)
theorem dX0_first_25 : decode cX0_first 25 = .ok (.sipush 200, 3) := dk_17 0 200 (dk_at dksX0_first_1 1 rfl rfl)
theorem dX0_first_28 : decode cX0_first 28 = .ok (.invokevirtual 255, 3) := dk_182 0 255 (dk_at dksX0_first_1 4 rfl rfl)
theorem dX0_first_31 : decode cX0_first 31 = .ok (.iconst 0, 1) := dk_3 (dk_at dksX0_first_1 7 rfl rfl)
theorem dX0_first_32 : decode cX0_first 32 = .ok (.istore 4, 2) := dk_54 4 (dk_at dksX0_first_1 8 rfl rfl)
theorem dX0_first_34 : decode cX0_first 34 = .ok (.iload 4, 2) := dk_21 4 (dk_at dksX0_first_1 10 rfl rfl)
theorem dX0_first_36 : decode cX0_first 36 = .ok (.aload_n 0, 1) := dk_42 (dk_at dksX0_first_1 12 rfl rfl)
theorem dX0_first_37 : decode cX0_first 37 = .ok (.getfield 243, 3) := dk_180 0 243 (dk_at dksX0_first_1 13 rfl rfl)
theorem dX0_first_40 : decode cX0_first 40 = .ok (.if_icmp .ge 94, 3) := dk_162 0 94 (dk_at dksX0_first_1 16 rfl rfl)
theorem dX0_first_43 : decode cX0_first 43 = .ok (.iconst 0, 1) := dk_3 (dk_at dksX0_first_1 19 rfl rfl)
theorem dX0_first_44 : decode cX0_first 44 = .ok (.istore 5, 2) := dk_54 5 (dk_at dksX0_first_1 20 rfl rfl)
theorem dX0_first_46 : decode cX0_first 46 = .ok (.iconst 0, 1) := dk_3 (dk_at dksX0_first_1 22 rfl rfl)
theorem dX0_first_47 : decode cX0_first 47 = .ok (.istore 6, 2) := dk_54 6 (dk_at dksX0_first_2 0 rfl rfl)
theorem dX0_first_49 : decode cX0_first 49 = .ok (.iload 6, 2) := dk_21 6 (dk_at dksX0_first_2 2 rfl rfl)
theorem dX0_first_51 : decode cX0_first 51 = .ok (.aload_n 0, 1) := dk_42 (dk_at dksX0_first_2 4 rfl rfl)
theorem dX0_first_52 : decode cX0_first 52 = .ok (.getfield 243, 3) := dk_180 0 243 (dk_at dksX0_first_2 5 rfl rfl)
theorem dX0_first_55 : decode cX0_first 55 = .ok (.if_icmp .ge 59, 3) := dk_162 0 59 (dk_at dksX0_first_2 8 rfl rfl)
theorem dX0_first_58 : decode cX0_first 58 = .ok (.iload 5, 2) := dk_21 5 (dk_at dksX0_first_2 11 rfl rfl)
theorem dX0_first_60 : decode cX0_first 60 = .ok (.iload 6, 2) := dk_21 6 (dk_at dksX0_first_2 13 rfl rfl)
theorem dX0_first_62 : decode cX0_first 62 = .ok (.iload 4, 2) := dk_21 4 (dk_at dksX0_first_2 15 rfl rfl)
theorem dX0_first_64 : decode cX0_first 64 = .ok (.if_icmp .eq 31, 3) := dk_159 0 31 (dk_at dksX0_first_2 17 rfl rfl)
theorem dX0_first_67 : decode cX0_first 67 = .ok (.aload_n 0, 1) := dk_42 (dk_at dksX0_first_2 20 rfl rfl)
theorem dX0_first_68 : decode cX0_first 68 = .ok (.getfield 32, 3) := dk_180 0 32 (dk_at dksX0_first_2 21 rfl rfl)
theorem dX0_first_71 : decode cX0_first 71 = .ok (.aload_n 0, 1) := dk_42 (dk_at dksX0_first_3 0 rfl rfl)
theorem dX0_first_72 : decode cX0_first 72 = .ok (.getfield 49, 3) := dk_180 0 49 (dk_at dksX0_first_3 1 rfl rfl)
theorem dX0_first_75 : decode cX0_first 75 = .ok (.iload 6, 2) := dk_21 6 (dk_at dksX0_first_3 4 rfl rfl)
theorem dX0_first_77 : decode cX0_first 77 = .ok (.iaload, 1) := dk_46 (dk_at dksX0_first_3 6 rfl rfl)
theorem dX0_first_78 : decode cX0_first 78 = .ok (.aload_n 0, 1) := dk_42 (dk_at dksX0_first_3 7 rfl rfl)
theorem dX0_first_79 : decode cX0_first 79 = .ok (.getfield 49, 3) := dk_180 0 49 (dk_at dksX0_first_3 8 rfl rfl)
theorem dX0_first_82 : decode cX0_first 82 = .ok (.iload 4, 2) := dk_21 4 (dk_at dksX0_first_3 11 rfl rfl)
theorem dX0_first_84 : decode cX0_first 84 = .ok (.iaload, 1) := dk_46 (dk_at dksX0_first_3 13 rfl rfl)
theorem dX0_first_85 : decode cX0_first 85 = .ok (.invokevirtual 259, 3) := dk_182 1 3 (dk_at dksX0_first_3 14 rfl rfl)
theorem dX0_first_88 : decode cX0_first 88 = .ok (.ifCond .eq 7, 3) := dk_153 0 7 (dk_at dksX0_first_3 17 rfl rfl)
theorem dX0_first_91 : decode cX0_first 91 = .ok (.iconst 1, 1) := dk_4 (dk_at dksX0_first_3 20 rfl rfl)
theorem dX0_first_92 : decode cX0_first 92 = .ok (.goto 4, 3) := dk_167 0 4 (dk_at dksX0_first_3 21 rfl rfl)
theorem dX0_first_95 : decode cX0_first 95 = .ok (.iconst 0, 1) := dk_3 (dk_at dksX0_first_4 0 rfl rfl)
theorem dX0_first_96 : decode cX0_first 96 = .ok (.iadd, 1) := dk_96 (dk_at dksX0_first_4 1 rfl rfl)
theorem dX0_first_97 : decode cX0_first 97 = .ok (.istore 5, 2) := dk_54 5 (dk_at dksX0_first_4 2 rfl rfl)
theorem dX0_first_99 : decode cX0_first 99 = .ok (.iload 5, 2) := dk_21 5 (dk_at dksX0_first_4 4 rfl rfl)
theorem dX0_first_101 : decode cX0_first 101 = .ok (.iload_n 3, 1) := dk_29 (dk_at dksX0_first_4 6 rfl rfl)
theorem dX0_first_102 : decode cX0_first 102 = .ok (.if_icmp .le 6, 3) := dk_164 0 6 (dk_at dksX0_first_4 7 rfl rfl)
theorem dX0_first_105 : decode cX0_first 105 = .ok (.goto 23, 3) := dk_167 0 23 (dk_at dksX0_first_4 10 rfl rfl)
theorem dX0_first_108 : decode cX0_first 108 = .ok (.iinc 6 1, 3) := dk_132 6 1 (dk_at dksX0_first_4 13 rfl rfl)
theorem dX0_first_111 : decode cX0_first 111 = .ok (.goto (-62), 3) := dk_167 255 194 (dk_at dksX0_first_4 16 rfl rfl)
theorem dX0_first_114 : decode cX0_first 114 = .ok (.iload 5, 2) := dk_21 5 (dk_at dksX0_first_4 19 rfl rfl)
theorem dX0_first_116 : decode cX0_first 116 = .ok (.iload_n 3, 1) := dk_29 (dk_at dksX0_first_4 21 rfl rfl)
theorem dX0_first_117 : decode cX0_first 117 = .ok (.if_icmp .ne 11, 3) := dk_160 0 11 (dk_at dksX0_first_5 0 rfl rfl)
theorem dX0_first_120 : decode cX0_first 120 = .ok (.aload_n 0, 1) := dk_42 (dk_at dksX0_first_5 3 rfl rfl)
theorem dX0_first_121 : decode cX0_first 121 = .ok (.getfield 49, 3) := dk_180 0 49 (dk_at dksX0_first_5 4 rfl rfl)
theorem dX0_first_124 : decode cX0_first 124 = .ok (.iload 4, 2) := dk_21 4 (dk_at dksX0_first_5 7 rfl rfl)
theorem dX0_first_126 : decode cX0_first 126 = .ok (.iaload, 1) := dk_46 (dk_at dksX0_first_5 9 rfl rfl)
theorem dX0_first_127 : decode cX0_first 127 = .ok (.ireturn, 1) := dk_172 (dk_at dksX0_first_5 10 rfl rfl)
theorem dX0_first_128 : decode cX0_first 128 = .ok (.iinc 4 1, 3) := dk_132 4 1 (dk_at dksX0_first_5 11 rfl rfl)
theorem dX0_first_131 : decode cX0_first 131 = .ok (.goto (-97), 3) := dk_167 255 159 (dk_at dksX0_first_5 14 rfl rfl)
theorem dX0_first_134 : decode cX0_first 134 = .ok (.bipush (-4), 2) := dk_16 252 (dk_at dksX0_first_5 17 rfl rfl)
theorem dX0_first_136 : decode cX0_first 136 = .ok (.ireturn, 1) := dk_172 (dk_at dksX0_first_5 19 rfl rfl)
abbrev cX0_soonest : ByteArray := prog_1_method_31_code
def yX0_soonest : MethodName := ⟨RX0, "soonest", "(II)I"⟩
def dkwX0_soonest_1 : List UInt8 := [2, 172, 42, 42, 180, 0, 32, 180, 0, 180, 27, 28, 182, 1, 6, 172]
abbrev dktX0_soonest_1 : List UInt8 := dkwX0_soonest_1 ++ []
def dkwX0_soonest_0 : List UInt8 := [27, 133, 9, 20, 0, 220, 184, 0, 93, 153, 0, 15, 28, 133, 9, 20, 0, 253, 184, 0, 93, 154, 0, 5]
abbrev dktX0_soonest_0 : List UInt8 := dkwX0_soonest_0 ++ dktX0_soonest_1
theorem dksX0_soonest_0 : cX0_soonest.data.toList.drop 0 = dktX0_soonest_0 := by decide +kernel
theorem dksX0_soonest_1 : cX0_soonest.data.toList.drop 24 = dktX0_soonest_1 := dk_seg dksX0_soonest_0 24 rfl rfl
theorem dX0_soonest_0 : decode cX0_soonest 0 = .ok (.iload_n 1, 1) := dk_27 (dk_at dksX0_soonest_0 0 rfl rfl)
theorem dX0_soonest_1 : decode cX0_soonest 1 = .ok (.i2l, 1) := dk_133 (dk_at dksX0_soonest_0 1 rfl rfl)
theorem dX0_soonest_2 : decode cX0_soonest 2 = .ok (.lconst 0, 1) := dk_9 (dk_at dksX0_soonest_0 2 rfl rfl)
theorem dX0_soonest_3 : decode cX0_soonest 3 = .ok (.ldc2_w 220, 3) := dk_20 0 220 (dk_at dksX0_soonest_0 3 rfl rfl)
theorem dX0_soonest_6 : decode cX0_soonest 6 = .ok (.invokestatic 93, 3) := dk_184 0 93 (dk_at dksX0_soonest_0 6 rfl rfl)
theorem dX0_soonest_9 : decode cX0_soonest 9 = .ok (.ifCond .eq 15, 3) := dk_153 0 15 (dk_at dksX0_soonest_0 9 rfl rfl)
theorem dX0_soonest_12 : decode cX0_soonest 12 = .ok (.iload_n 2, 1) := dk_28 (dk_at dksX0_soonest_0 12 rfl rfl)
theorem dX0_soonest_13 : decode cX0_soonest 13 = .ok (.i2l, 1) := dk_133 (dk_at dksX0_soonest_0 13 rfl rfl)
theorem dX0_soonest_14 : decode cX0_soonest 14 = .ok (.lconst 0, 1) := dk_9 (dk_at dksX0_soonest_0 14 rfl rfl)
theorem dX0_soonest_15 : decode cX0_soonest 15 = .ok (.ldc2_w 253, 3) := dk_20 0 253 (dk_at dksX0_soonest_0 15 rfl rfl)
theorem dX0_soonest_18 : decode cX0_soonest 18 = .ok (.invokestatic 93, 3) := dk_184 0 93 (dk_at dksX0_soonest_0 18 rfl rfl)
theorem dX0_soonest_21 : decode cX0_soonest 21 = .ok (.ifCond .ne 5, 3) := dk_154 0 5 (dk_at dksX0_soonest_0 21 rfl rfl)
theorem dX0_soonest_24 : decode cX0_soonest 24 = .ok (.iconst (-1), 1) := dk_2 (dk_at dksX0_soonest_1 0 rfl rfl)
theorem dX0_soonest_25 : decode cX0_soonest 25 = .ok (.ireturn, 1) := dk_172 (dk_at dksX0_soonest_1 1 rfl rfl)
theorem dX0_soonest_26 : decode cX0_soonest 26 = .ok (.aload_n 0, 1) := dk_42 (dk_at dksX0_soonest_1 2 rfl rfl)
theorem dX0_soonest_27 : decode cX0_soonest 27 = .ok (.aload_n 0, 1) := dk_42 (dk_at dksX0_soonest_1 3 rfl rfl)
theorem dX0_soonest_28 : decode cX0_soonest 28 = .ok (.getfield 32, 3) := dk_180 0 32 (dk_at dksX0_soonest_1 4 rfl rfl)
theorem dX0_soonest_31 : decode cX0_soonest 31 = .ok (.getfield 180, 3) := dk_180 0 180 (dk_at dksX0_soonest_1 7 rfl rfl)
theorem dX0_soonest_34 : decode cX0_soonest 34 = .ok (.iload_n 1, 1) := dk_27 (dk_at dksX0_soonest_1 10 rfl rfl)
theorem dX0_soonest_35 : decode cX0_soonest 35 = .ok (.iload_n 2, 1) := dk_28 (dk_at dksX0_soonest_1 11 rfl rfl)
theorem dX0_soonest_36 : decode cX0_soonest 36 = .ok (.invokevirtual 262, 3) := dk_182 1 6 (dk_at dksX0_soonest_1 12 rfl rfl)
theorem dX0_soonest_39 : decode cX0_soonest 39 = .ok (.ireturn, 1) := dk_172 (dk_at dksX0_soonest_1 15 rfl rfl)
abbrev cX0_soonestOf : ByteArray := prog_1_method_29_code
def yX0_soonestOf : MethodName := ⟨RX0, "soonestOf", "(LDeadlineTree$Node;II)I"⟩
def dkwX0_soonestOf_6 : List UInt8 := [172]
abbrev dktX0_soonestOf_6 : List UInt8 := dkwX0_soonestOf_6 ++ []
def dkwX0_soonestOf_5 : List UInt8 := [153, 0, 8, 21, 5, 167, 0, 19, 42, 21, 5, 42, 43, 180, 0, 200, 28, 29, 182, 1, 6, 182, 1, 10]
abbrev dktX0_soonestOf_5 : List UInt8 := dkwX0_soonestOf_5 ++ dktX0_soonestOf_6
def dkwX0_soonestOf_4 : List UInt8 := [21, 5, 16, 252, 159, 0, 27, 43, 42, 180, 0, 32, 180, 0, 168, 21, 5, 51, 21, 5, 182, 1, 14]
abbrev dktX0_soonestOf_4 : List UInt8 := dkwX0_soonestOf_4 ++ dktX0_soonestOf_5
def dkwX0_soonestOf_3 : List UInt8 := [28, 161, 0, 16, 42, 43, 180, 0, 203, 28, 29, 182, 1, 6, 167, 0, 5, 16, 252, 182, 1, 10, 54, 5]
abbrev dktX0_soonestOf_3 : List UInt8 := dkwX0_soonestOf_3 ++ dktX0_soonestOf_4
def dkwX0_soonestOf_2 : List UInt8 := [167, 0, 5, 16, 252, 54, 5, 43, 182, 0, 184, 153, 0, 6, 21, 5, 172, 42, 21, 5, 43, 180, 0, 206]
abbrev dktX0_soonestOf_2 : List UInt8 := dkwX0_soonestOf_2 ++ dktX0_soonestOf_3
def dkwX0_soonestOf_1 : List UInt8 := [164, 0, 6, 16, 252, 172, 42, 180, 0, 32, 180, 0, 168, 21, 4, 51, 28, 161, 0, 8, 21, 4]
abbrev dktX0_soonestOf_1 : List UInt8 := dkwX0_soonestOf_1 ++ dktX0_soonestOf_2
def dkwX0_soonestOf_0 : List UInt8 := [43, 180, 0, 1, 54, 4, 21, 4, 16, 252, 159, 0, 16, 42, 180, 0, 32, 21, 4, 182, 0, 177, 29]
abbrev dktX0_soonestOf_0 : List UInt8 := dkwX0_soonestOf_0 ++ dktX0_soonestOf_1
theorem dksX0_soonestOf_0 : cX0_soonestOf.data.toList.drop 0 = dktX0_soonestOf_0 := by decide +kernel
theorem dksX0_soonestOf_1 : cX0_soonestOf.data.toList.drop 23 = dktX0_soonestOf_1 := dk_seg dksX0_soonestOf_0 23 rfl rfl
theorem dksX0_soonestOf_2 : cX0_soonestOf.data.toList.drop 45 = dktX0_soonestOf_2 := dk_seg dksX0_soonestOf_1 22 rfl rfl
theorem dksX0_soonestOf_3 : cX0_soonestOf.data.toList.drop 69 = dktX0_soonestOf_3 := dk_seg dksX0_soonestOf_2 24 rfl rfl
theorem dksX0_soonestOf_4 : cX0_soonestOf.data.toList.drop 93 = dktX0_soonestOf_4 := dk_seg dksX0_soonestOf_3 24 rfl rfl
theorem dksX0_soonestOf_5 : cX0_soonestOf.data.toList.drop 116 = dktX0_soonestOf_5 := dk_seg dksX0_soonestOf_4 23 rfl rfl
theorem dksX0_soonestOf_6 : cX0_soonestOf.data.toList.drop 140 = dktX0_soonestOf_6 := dk_seg dksX0_soonestOf_5 24 rfl rfl
theorem dX0_soonestOf_0 : decode cX0_soonestOf 0 = .ok (.aload_n 1, 1) := dk_43 (dk_at dksX0_soonestOf_0 0 rfl rfl)
theorem dX0_soonestOf_1 : decode cX0_soonestOf 1 = .ok (.getfield 1, 3) := dk_180 0 1 (dk_at dksX0_soonestOf_0 1 rfl rfl)
theorem dX0_soonestOf_4 : decode cX0_soonestOf 4 = .ok (.istore 4, 2) := dk_54 4 (dk_at dksX0_soonestOf_0 4 rfl rfl)
theorem dX0_soonestOf_6 : decode cX0_soonestOf 6 = .ok (.iload 4, 2) := dk_21 4 (dk_at dksX0_soonestOf_0 6 rfl rfl)
theorem dX0_soonestOf_8 : decode cX0_soonestOf 8 = .ok (.bipush (-4), 2) := dk_16 252 (dk_at dksX0_soonestOf_0 8 rfl rfl)
theorem dX0_soonestOf_10 : decode cX0_soonestOf 10 = .ok (.if_icmp .eq 16, 3) := dk_159 0 16 (dk_at dksX0_soonestOf_0 10 rfl rfl)
theorem dX0_soonestOf_13 : decode cX0_soonestOf 13 = .ok (.aload_n 0, 1) := dk_42 (dk_at dksX0_soonestOf_0 13 rfl rfl)
theorem dX0_soonestOf_14 : decode cX0_soonestOf 14 = .ok (.getfield 32, 3) := dk_180 0 32 (dk_at dksX0_soonestOf_0 14 rfl rfl)
theorem dX0_soonestOf_17 : decode cX0_soonestOf 17 = .ok (.iload 4, 2) := dk_21 4 (dk_at dksX0_soonestOf_0 17 rfl rfl)
theorem dX0_soonestOf_19 : decode cX0_soonestOf 19 = .ok (.invokevirtual 177, 3) := dk_182 0 177 (dk_at dksX0_soonestOf_0 19 rfl rfl)
theorem dX0_soonestOf_22 : decode cX0_soonestOf 22 = .ok (.iload_n 3, 1) := dk_29 (dk_at dksX0_soonestOf_0 22 rfl rfl)
theorem dX0_soonestOf_23 : decode cX0_soonestOf 23 = .ok (.if_icmp .le 6, 3) := dk_164 0 6 (dk_at dksX0_soonestOf_1 0 rfl rfl)
theorem dX0_soonestOf_26 : decode cX0_soonestOf 26 = .ok (.bipush (-4), 2) := dk_16 252 (dk_at dksX0_soonestOf_1 3 rfl rfl)
theorem dX0_soonestOf_28 : decode cX0_soonestOf 28 = .ok (.ireturn, 1) := dk_172 (dk_at dksX0_soonestOf_1 5 rfl rfl)
theorem dX0_soonestOf_29 : decode cX0_soonestOf 29 = .ok (.aload_n 0, 1) := dk_42 (dk_at dksX0_soonestOf_1 6 rfl rfl)
theorem dX0_soonestOf_30 : decode cX0_soonestOf 30 = .ok (.getfield 32, 3) := dk_180 0 32 (dk_at dksX0_soonestOf_1 7 rfl rfl)
theorem dX0_soonestOf_33 : decode cX0_soonestOf 33 = .ok (.getfield 168, 3) := dk_180 0 168 (dk_at dksX0_soonestOf_1 10 rfl rfl)
theorem dX0_soonestOf_36 : decode cX0_soonestOf 36 = .ok (.iload 4, 2) := dk_21 4 (dk_at dksX0_soonestOf_1 13 rfl rfl)
theorem dX0_soonestOf_38 : decode cX0_soonestOf 38 = .ok (.baload, 1) := dk_51 (dk_at dksX0_soonestOf_1 15 rfl rfl)
theorem dX0_soonestOf_39 : decode cX0_soonestOf 39 = .ok (.iload_n 2, 1) := dk_28 (dk_at dksX0_soonestOf_1 16 rfl rfl)
theorem dX0_soonestOf_40 : decode cX0_soonestOf 40 = .ok (.if_icmp .lt 8, 3) := dk_161 0 8 (dk_at dksX0_soonestOf_1 17 rfl rfl)
theorem dX0_soonestOf_43 : decode cX0_soonestOf 43 = .ok (.iload 4, 2) := dk_21 4 (dk_at dksX0_soonestOf_1 20 rfl rfl)
theorem dX0_soonestOf_45 : decode cX0_soonestOf 45 = .ok (.goto 5, 3) := dk_167 0 5 (dk_at dksX0_soonestOf_2 0 rfl rfl)
theorem dX0_soonestOf_48 : decode cX0_soonestOf 48 = .ok (.bipush (-4), 2) := dk_16 252 (dk_at dksX0_soonestOf_2 3 rfl rfl)
theorem dX0_soonestOf_50 : decode cX0_soonestOf 50 = .ok (.istore 5, 2) := dk_54 5 (dk_at dksX0_soonestOf_2 5 rfl rfl)
theorem dX0_soonestOf_52 : decode cX0_soonestOf 52 = .ok (.aload_n 1, 1) := dk_43 (dk_at dksX0_soonestOf_2 7 rfl rfl)
theorem dX0_soonestOf_53 : decode cX0_soonestOf 53 = .ok (.invokevirtual 184, 3) := dk_182 0 184 (dk_at dksX0_soonestOf_2 8 rfl rfl)
theorem dX0_soonestOf_56 : decode cX0_soonestOf 56 = .ok (.ifCond .eq 6, 3) := dk_153 0 6 (dk_at dksX0_soonestOf_2 11 rfl rfl)
theorem dX0_soonestOf_59 : decode cX0_soonestOf 59 = .ok (.iload 5, 2) := dk_21 5 (dk_at dksX0_soonestOf_2 14 rfl rfl)
theorem dX0_soonestOf_61 : decode cX0_soonestOf 61 = .ok (.ireturn, 1) := dk_172 (dk_at dksX0_soonestOf_2 16 rfl rfl)
theorem dX0_soonestOf_62 : decode cX0_soonestOf 62 = .ok (.aload_n 0, 1) := dk_42 (dk_at dksX0_soonestOf_2 17 rfl rfl)
theorem dX0_soonestOf_63 : decode cX0_soonestOf 63 = .ok (.iload 5, 2) := dk_21 5 (dk_at dksX0_soonestOf_2 18 rfl rfl)
theorem dX0_soonestOf_65 : decode cX0_soonestOf 65 = .ok (.aload_n 1, 1) := dk_43 (dk_at dksX0_soonestOf_2 20 rfl rfl)
theorem dX0_soonestOf_66 : decode cX0_soonestOf 66 = .ok (.getfield 206, 3) := dk_180 0 206 (dk_at dksX0_soonestOf_2 21 rfl rfl)
theorem dX0_soonestOf_69 : decode cX0_soonestOf 69 = .ok (.iload_n 2, 1) := dk_28 (dk_at dksX0_soonestOf_3 0 rfl rfl)
theorem dX0_soonestOf_70 : decode cX0_soonestOf 70 = .ok (.if_icmp .lt 16, 3) := dk_161 0 16 (dk_at dksX0_soonestOf_3 1 rfl rfl)
theorem dX0_soonestOf_73 : decode cX0_soonestOf 73 = .ok (.aload_n 0, 1) := dk_42 (dk_at dksX0_soonestOf_3 4 rfl rfl)
theorem dX0_soonestOf_74 : decode cX0_soonestOf 74 = .ok (.aload_n 1, 1) := dk_43 (dk_at dksX0_soonestOf_3 5 rfl rfl)
theorem dX0_soonestOf_75 : decode cX0_soonestOf 75 = .ok (.getfield 203, 3) := dk_180 0 203 (dk_at dksX0_soonestOf_3 6 rfl rfl)
theorem dX0_soonestOf_78 : decode cX0_soonestOf 78 = .ok (.iload_n 2, 1) := dk_28 (dk_at dksX0_soonestOf_3 9 rfl rfl)
theorem dX0_soonestOf_79 : decode cX0_soonestOf 79 = .ok (.iload_n 3, 1) := dk_29 (dk_at dksX0_soonestOf_3 10 rfl rfl)
theorem dX0_soonestOf_80 : decode cX0_soonestOf 80 = .ok (.invokevirtual 262, 3) := dk_182 1 6 (dk_at dksX0_soonestOf_3 11 rfl rfl)
theorem dX0_soonestOf_83 : decode cX0_soonestOf 83 = .ok (.goto 5, 3) := dk_167 0 5 (dk_at dksX0_soonestOf_3 14 rfl rfl)
theorem dX0_soonestOf_86 : decode cX0_soonestOf 86 = .ok (.bipush (-4), 2) := dk_16 252 (dk_at dksX0_soonestOf_3 17 rfl rfl)
theorem dX0_soonestOf_88 : decode cX0_soonestOf 88 = .ok (.invokevirtual 266, 3) := dk_182 1 10 (dk_at dksX0_soonestOf_3 19 rfl rfl)
theorem dX0_soonestOf_91 : decode cX0_soonestOf 91 = .ok (.istore 5, 2) := dk_54 5 (dk_at dksX0_soonestOf_3 22 rfl rfl)
theorem dX0_soonestOf_93 : decode cX0_soonestOf 93 = .ok (.iload 5, 2) := dk_21 5 (dk_at dksX0_soonestOf_4 0 rfl rfl)
theorem dX0_soonestOf_95 : decode cX0_soonestOf 95 = .ok (.bipush (-4), 2) := dk_16 252 (dk_at dksX0_soonestOf_4 2 rfl rfl)
theorem dX0_soonestOf_97 : decode cX0_soonestOf 97 = .ok (.if_icmp .eq 27, 3) := dk_159 0 27 (dk_at dksX0_soonestOf_4 4 rfl rfl)
theorem dX0_soonestOf_100 : decode cX0_soonestOf 100 = .ok (.aload_n 1, 1) := dk_43 (dk_at dksX0_soonestOf_4 7 rfl rfl)
theorem dX0_soonestOf_101 : decode cX0_soonestOf 101 = .ok (.aload_n 0, 1) := dk_42 (dk_at dksX0_soonestOf_4 8 rfl rfl)
theorem dX0_soonestOf_102 : decode cX0_soonestOf 102 = .ok (.getfield 32, 3) := dk_180 0 32 (dk_at dksX0_soonestOf_4 9 rfl rfl)
theorem dX0_soonestOf_105 : decode cX0_soonestOf 105 = .ok (.getfield 168, 3) := dk_180 0 168 (dk_at dksX0_soonestOf_4 12 rfl rfl)
theorem dX0_soonestOf_108 : decode cX0_soonestOf 108 = .ok (.iload 5, 2) := dk_21 5 (dk_at dksX0_soonestOf_4 15 rfl rfl)
theorem dX0_soonestOf_110 : decode cX0_soonestOf 110 = .ok (.baload, 1) := dk_51 (dk_at dksX0_soonestOf_4 17 rfl rfl)
theorem dX0_soonestOf_111 : decode cX0_soonestOf 111 = .ok (.iload 5, 2) := dk_21 5 (dk_at dksX0_soonestOf_4 18 rfl rfl)
theorem dX0_soonestOf_113 : decode cX0_soonestOf 113 = .ok (.invokevirtual 270, 3) := dk_182 1 14 (dk_at dksX0_soonestOf_4 20 rfl rfl)
theorem dX0_soonestOf_116 : decode cX0_soonestOf 116 = .ok (.ifCond .eq 8, 3) := dk_153 0 8 (dk_at dksX0_soonestOf_5 0 rfl rfl)
theorem dX0_soonestOf_119 : decode cX0_soonestOf 119 = .ok (.iload 5, 2) := dk_21 5 (dk_at dksX0_soonestOf_5 3 rfl rfl)
theorem dX0_soonestOf_121 : decode cX0_soonestOf 121 = .ok (.goto 19, 3) := dk_167 0 19 (dk_at dksX0_soonestOf_5 5 rfl rfl)
theorem dX0_soonestOf_124 : decode cX0_soonestOf 124 = .ok (.aload_n 0, 1) := dk_42 (dk_at dksX0_soonestOf_5 8 rfl rfl)
theorem dX0_soonestOf_125 : decode cX0_soonestOf 125 = .ok (.iload 5, 2) := dk_21 5 (dk_at dksX0_soonestOf_5 9 rfl rfl)
theorem dX0_soonestOf_127 : decode cX0_soonestOf 127 = .ok (.aload_n 0, 1) := dk_42 (dk_at dksX0_soonestOf_5 11 rfl rfl)
theorem dX0_soonestOf_128 : decode cX0_soonestOf 128 = .ok (.aload_n 1, 1) := dk_43 (dk_at dksX0_soonestOf_5 12 rfl rfl)
theorem dX0_soonestOf_129 : decode cX0_soonestOf 129 = .ok (.getfield 200, 3) := dk_180 0 200 (dk_at dksX0_soonestOf_5 13 rfl rfl)
theorem dX0_soonestOf_132 : decode cX0_soonestOf 132 = .ok (.iload_n 2, 1) := dk_28 (dk_at dksX0_soonestOf_5 16 rfl rfl)
theorem dX0_soonestOf_133 : decode cX0_soonestOf 133 = .ok (.iload_n 3, 1) := dk_29 (dk_at dksX0_soonestOf_5 17 rfl rfl)
theorem dX0_soonestOf_134 : decode cX0_soonestOf 134 = .ok (.invokevirtual 262, 3) := dk_182 1 6 (dk_at dksX0_soonestOf_5 18 rfl rfl)
theorem dX0_soonestOf_137 : decode cX0_soonestOf 137 = .ok (.invokevirtual 266, 3) := dk_182 1 10 (dk_at dksX0_soonestOf_5 21 rfl rfl)
theorem dX0_soonestOf_140 : decode cX0_soonestOf 140 = .ok (.ireturn, 1) := dk_172 (dk_at dksX0_soonestOf_6 0 rfl rfl)
abbrev cX0_leftOf : ByteArray := prog_1_method_30_code
def yX0_leftOf : MethodName := ⟨RX0, "leftOf", "(II)I"⟩
def dkwX0_leftOf_3 : List UInt8 := [62, 29, 153, 0, 7, 27, 167, 0, 4, 28, 172]
abbrev dktX0_leftOf_3 : List UInt8 := dkwX0_leftOf_3 ++ []
def dkwX0_leftOf_2 : List UInt8 := [27, 51, 42, 180, 0, 32, 180, 0, 168, 28, 51, 160, 0, 12, 27, 28, 162, 0, 7, 4, 167, 0, 4, 3]
abbrev dktX0_leftOf_2 : List UInt8 := dkwX0_leftOf_2 ++ dktX0_leftOf_3
def dkwX0_leftOf_1 : List UInt8 := [180, 0, 168, 27, 51, 42, 180, 0, 32, 180, 0, 168, 28, 51, 161, 0, 29, 42, 180, 0, 32, 180, 0, 168]
abbrev dktX0_leftOf_1 : List UInt8 := dkwX0_leftOf_1 ++ dktX0_leftOf_2
def dkwX0_leftOf_0 : List UInt8 := [27, 16, 252, 159, 0, 9, 28, 16, 252, 160, 0, 9, 27, 28, 184, 1, 17, 172, 42, 180, 0, 32]
abbrev dktX0_leftOf_0 : List UInt8 := dkwX0_leftOf_0 ++ dktX0_leftOf_1
theorem dksX0_leftOf_0 : cX0_leftOf.data.toList.drop 0 = dktX0_leftOf_0 := by decide +kernel
theorem dksX0_leftOf_1 : cX0_leftOf.data.toList.drop 22 = dktX0_leftOf_1 := dk_seg dksX0_leftOf_0 22 rfl rfl
theorem dksX0_leftOf_2 : cX0_leftOf.data.toList.drop 46 = dktX0_leftOf_2 := dk_seg dksX0_leftOf_1 24 rfl rfl
theorem dksX0_leftOf_3 : cX0_leftOf.data.toList.drop 70 = dktX0_leftOf_3 := dk_seg dksX0_leftOf_2 24 rfl rfl
theorem dX0_leftOf_0 : decode cX0_leftOf 0 = .ok (.iload_n 1, 1) := dk_27 (dk_at dksX0_leftOf_0 0 rfl rfl)
theorem dX0_leftOf_1 : decode cX0_leftOf 1 = .ok (.bipush (-4), 2) := dk_16 252 (dk_at dksX0_leftOf_0 1 rfl rfl)
theorem dX0_leftOf_3 : decode cX0_leftOf 3 = .ok (.if_icmp .eq 9, 3) := dk_159 0 9 (dk_at dksX0_leftOf_0 3 rfl rfl)
theorem dX0_leftOf_6 : decode cX0_leftOf 6 = .ok (.iload_n 2, 1) := dk_28 (dk_at dksX0_leftOf_0 6 rfl rfl)
theorem dX0_leftOf_7 : decode cX0_leftOf 7 = .ok (.bipush (-4), 2) := dk_16 252 (dk_at dksX0_leftOf_0 7 rfl rfl)
theorem dX0_leftOf_9 : decode cX0_leftOf 9 = .ok (.if_icmp .ne 9, 3) := dk_160 0 9 (dk_at dksX0_leftOf_0 9 rfl rfl)
theorem dX0_leftOf_12 : decode cX0_leftOf 12 = .ok (.iload_n 1, 1) := dk_27 (dk_at dksX0_leftOf_0 12 rfl rfl)
theorem dX0_leftOf_13 : decode cX0_leftOf 13 = .ok (.iload_n 2, 1) := dk_28 (dk_at dksX0_leftOf_0 13 rfl rfl)
theorem dX0_leftOf_14 : decode cX0_leftOf 14 = .ok (.invokestatic 273, 3) := dk_184 1 17 (dk_at dksX0_leftOf_0 14 rfl rfl)
theorem dX0_leftOf_17 : decode cX0_leftOf 17 = .ok (.ireturn, 1) := dk_172 (dk_at dksX0_leftOf_0 17 rfl rfl)
theorem dX0_leftOf_18 : decode cX0_leftOf 18 = .ok (.aload_n 0, 1) := dk_42 (dk_at dksX0_leftOf_0 18 rfl rfl)
theorem dX0_leftOf_19 : decode cX0_leftOf 19 = .ok (.getfield 32, 3) := dk_180 0 32 (dk_at dksX0_leftOf_0 19 rfl rfl)
theorem dX0_leftOf_22 : decode cX0_leftOf 22 = .ok (.getfield 168, 3) := dk_180 0 168 (dk_at dksX0_leftOf_1 0 rfl rfl)
theorem dX0_leftOf_25 : decode cX0_leftOf 25 = .ok (.iload_n 1, 1) := dk_27 (dk_at dksX0_leftOf_1 3 rfl rfl)
theorem dX0_leftOf_26 : decode cX0_leftOf 26 = .ok (.baload, 1) := dk_51 (dk_at dksX0_leftOf_1 4 rfl rfl)
theorem dX0_leftOf_27 : decode cX0_leftOf 27 = .ok (.aload_n 0, 1) := dk_42 (dk_at dksX0_leftOf_1 5 rfl rfl)
theorem dX0_leftOf_28 : decode cX0_leftOf 28 = .ok (.getfield 32, 3) := dk_180 0 32 (dk_at dksX0_leftOf_1 6 rfl rfl)
theorem dX0_leftOf_31 : decode cX0_leftOf 31 = .ok (.getfield 168, 3) := dk_180 0 168 (dk_at dksX0_leftOf_1 9 rfl rfl)
theorem dX0_leftOf_34 : decode cX0_leftOf 34 = .ok (.iload_n 2, 1) := dk_28 (dk_at dksX0_leftOf_1 12 rfl rfl)
theorem dX0_leftOf_35 : decode cX0_leftOf 35 = .ok (.baload, 1) := dk_51 (dk_at dksX0_leftOf_1 13 rfl rfl)
theorem dX0_leftOf_36 : decode cX0_leftOf 36 = .ok (.if_icmp .lt 29, 3) := dk_161 0 29 (dk_at dksX0_leftOf_1 14 rfl rfl)
theorem dX0_leftOf_39 : decode cX0_leftOf 39 = .ok (.aload_n 0, 1) := dk_42 (dk_at dksX0_leftOf_1 17 rfl rfl)
theorem dX0_leftOf_40 : decode cX0_leftOf 40 = .ok (.getfield 32, 3) := dk_180 0 32 (dk_at dksX0_leftOf_1 18 rfl rfl)
theorem dX0_leftOf_43 : decode cX0_leftOf 43 = .ok (.getfield 168, 3) := dk_180 0 168 (dk_at dksX0_leftOf_1 21 rfl rfl)
theorem dX0_leftOf_46 : decode cX0_leftOf 46 = .ok (.iload_n 1, 1) := dk_27 (dk_at dksX0_leftOf_2 0 rfl rfl)
theorem dX0_leftOf_47 : decode cX0_leftOf 47 = .ok (.baload, 1) := dk_51 (dk_at dksX0_leftOf_2 1 rfl rfl)
theorem dX0_leftOf_48 : decode cX0_leftOf 48 = .ok (.aload_n 0, 1) := dk_42 (dk_at dksX0_leftOf_2 2 rfl rfl)
theorem dX0_leftOf_49 : decode cX0_leftOf 49 = .ok (.getfield 32, 3) := dk_180 0 32 (dk_at dksX0_leftOf_2 3 rfl rfl)
theorem dX0_leftOf_52 : decode cX0_leftOf 52 = .ok (.getfield 168, 3) := dk_180 0 168 (dk_at dksX0_leftOf_2 6 rfl rfl)
theorem dX0_leftOf_55 : decode cX0_leftOf 55 = .ok (.iload_n 2, 1) := dk_28 (dk_at dksX0_leftOf_2 9 rfl rfl)
theorem dX0_leftOf_56 : decode cX0_leftOf 56 = .ok (.baload, 1) := dk_51 (dk_at dksX0_leftOf_2 10 rfl rfl)
theorem dX0_leftOf_57 : decode cX0_leftOf 57 = .ok (.if_icmp .ne 12, 3) := dk_160 0 12 (dk_at dksX0_leftOf_2 11 rfl rfl)
theorem dX0_leftOf_60 : decode cX0_leftOf 60 = .ok (.iload_n 1, 1) := dk_27 (dk_at dksX0_leftOf_2 14 rfl rfl)
theorem dX0_leftOf_61 : decode cX0_leftOf 61 = .ok (.iload_n 2, 1) := dk_28 (dk_at dksX0_leftOf_2 15 rfl rfl)
theorem dX0_leftOf_62 : decode cX0_leftOf 62 = .ok (.if_icmp .ge 7, 3) := dk_162 0 7 (dk_at dksX0_leftOf_2 16 rfl rfl)
theorem dX0_leftOf_65 : decode cX0_leftOf 65 = .ok (.iconst 1, 1) := dk_4 (dk_at dksX0_leftOf_2 19 rfl rfl)
theorem dX0_leftOf_66 : decode cX0_leftOf 66 = .ok (.goto 4, 3) := dk_167 0 4 (dk_at dksX0_leftOf_2 20 rfl rfl)
theorem dX0_leftOf_69 : decode cX0_leftOf 69 = .ok (.iconst 0, 1) := dk_3 (dk_at dksX0_leftOf_2 23 rfl rfl)
theorem dX0_leftOf_70 : decode cX0_leftOf 70 = .ok (.istore_n 3, 1) := dk_62 (dk_at dksX0_leftOf_3 0 rfl rfl)
theorem dX0_leftOf_71 : decode cX0_leftOf 71 = .ok (.iload_n 3, 1) := dk_29 (dk_at dksX0_leftOf_3 1 rfl rfl)
theorem dX0_leftOf_72 : decode cX0_leftOf 72 = .ok (.ifCond .eq 7, 3) := dk_153 0 7 (dk_at dksX0_leftOf_3 2 rfl rfl)
theorem dX0_leftOf_75 : decode cX0_leftOf 75 = .ok (.iload_n 1, 1) := dk_27 (dk_at dksX0_leftOf_3 5 rfl rfl)
theorem dX0_leftOf_76 : decode cX0_leftOf 76 = .ok (.goto 4, 3) := dk_167 0 4 (dk_at dksX0_leftOf_3 6 rfl rfl)
theorem dX0_leftOf_79 : decode cX0_leftOf 79 = .ok (.iload_n 2, 1) := dk_28 (dk_at dksX0_leftOf_3 9 rfl rfl)
theorem dX0_leftOf_80 : decode cX0_leftOf 80 = .ok (.ireturn, 1) := dk_172 (dk_at dksX0_leftOf_3 10 rfl rfl)
abbrev cX0_end : ByteArray := prog_1_method_35_code
def yX0_end : MethodName := ⟨RX0, "end", "(I)I"⟩
def dkwX0_end_1 : List UInt8 := [180, 0, 53, 27, 46, 172]
abbrev dktX0_end_1 : List UInt8 := dkwX0_end_1 ++ []
def dkwX0_end_0 : List UInt8 := [42, 27, 182, 0, 159, 154, 0, 5, 2, 172, 42, 42, 180, 0, 32, 180, 0, 140, 3, 182, 1, 38, 87, 42]
abbrev dktX0_end_0 : List UInt8 := dkwX0_end_0 ++ dktX0_end_1
theorem dksX0_end_0 : cX0_end.data.toList.drop 0 = dktX0_end_0 := by decide +kernel
theorem dksX0_end_1 : cX0_end.data.toList.drop 24 = dktX0_end_1 := dk_seg dksX0_end_0 24 rfl rfl
theorem dX0_end_0 : decode cX0_end 0 = .ok (.aload_n 0, 1) := dk_42 (dk_at dksX0_end_0 0 rfl rfl)
theorem dX0_end_1 : decode cX0_end 1 = .ok (.iload_n 1, 1) := dk_27 (dk_at dksX0_end_0 1 rfl rfl)
theorem dX0_end_2 : decode cX0_end 2 = .ok (.invokevirtual 159, 3) := dk_182 0 159 (dk_at dksX0_end_0 2 rfl rfl)
theorem dX0_end_5 : decode cX0_end 5 = .ok (.ifCond .ne 5, 3) := dk_154 0 5 (dk_at dksX0_end_0 5 rfl rfl)
theorem dX0_end_8 : decode cX0_end 8 = .ok (.iconst (-1), 1) := dk_2 (dk_at dksX0_end_0 8 rfl rfl)
theorem dX0_end_9 : decode cX0_end 9 = .ok (.ireturn, 1) := dk_172 (dk_at dksX0_end_0 9 rfl rfl)
theorem dX0_end_10 : decode cX0_end 10 = .ok (.aload_n 0, 1) := dk_42 (dk_at dksX0_end_0 10 rfl rfl)
theorem dX0_end_11 : decode cX0_end 11 = .ok (.aload_n 0, 1) := dk_42 (dk_at dksX0_end_0 11 rfl rfl)
theorem dX0_end_12 : decode cX0_end 12 = .ok (.getfield 32, 3) := dk_180 0 32 (dk_at dksX0_end_0 12 rfl rfl)
theorem dX0_end_15 : decode cX0_end 15 = .ok (.getfield 140, 3) := dk_180 0 140 (dk_at dksX0_end_0 15 rfl rfl)
theorem dX0_end_18 : decode cX0_end 18 = .ok (.iconst 0, 1) := dk_3 (dk_at dksX0_end_0 18 rfl rfl)
theorem dX0_end_19 : decode cX0_end 19 = .ok (.invokevirtual 294, 3) := dk_182 1 38 (dk_at dksX0_end_0 19 rfl rfl)
theorem dX0_end_22 : decode cX0_end 22 = .ok (.pop, 1) := dk_87 (dk_at dksX0_end_0 22 rfl rfl)
theorem dX0_end_23 : decode cX0_end 23 = .ok (.aload_n 0, 1) := dk_42 (dk_at dksX0_end_0 23 rfl rfl)
theorem dX0_end_24 : decode cX0_end 24 = .ok (.getfield 53, 3) := dk_180 0 53 (dk_at dksX0_end_1 0 rfl rfl)
theorem dX0_end_27 : decode cX0_end 27 = .ok (.iload_n 1, 1) := dk_27 (dk_at dksX0_end_1 3 rfl rfl)
theorem dX0_end_28 : decode cX0_end 28 = .ok (.iaload, 1) := dk_46 (dk_at dksX0_end_1 4 rfl rfl)
theorem dX0_end_29 : decode cX0_end 29 = .ok (.ireturn, 1) := dk_172 (dk_at dksX0_end_1 5 rfl rfl)
abbrev cX0_lateOf : ByteArray := prog_1_method_34_code
def yX0_lateOf : MethodName := ⟨RX0, "lateOf", "(II)I"⟩
def dkwX0_lateOf_4 : List UInt8 := [21, 5, 4, 21, 6, 120, 2, 130, 126, 54, 5, 167, 255, 159, 29, 172]
abbrev dktX0_lateOf_4 : List UInt8 := dkwX0_lateOf_4 ++ []
def dkwX0_lateOf_3 : List UInt8 := [180, 0, 32, 180, 0, 171, 21, 6, 51, 28, 96, 164, 0, 10, 4, 21, 6, 120, 167, 0, 4, 3, 128, 62]
abbrev dktX0_lateOf_3 : List UInt8 := dkwX0_lateOf_3 ++ dktX0_lateOf_4
def dkwX0_lateOf_2 : List UInt8 := [180, 0, 174, 21, 6, 51, 96, 54, 4, 42, 180, 0, 53, 21, 6, 21, 4, 79, 29, 21, 4, 42]
abbrev dktX0_lateOf_2 : List UInt8 := dkwX0_lateOf_2 ++ dktX0_lateOf_3
def dkwX0_lateOf_1 : List UInt8 := [21, 6, 16, 252, 160, 0, 14, 42, 21, 5, 182, 1, 35, 54, 4, 167, 255, 225, 21, 4, 42, 180, 0, 32]
abbrev dktX0_lateOf_1 : List UInt8 := dkwX0_lateOf_1 ++ dktX0_lateOf_2
def dkwX0_lateOf_0 : List UInt8 := [3, 62, 3, 54, 4, 27, 54, 5, 21, 5, 153, 0, 98, 42, 21, 5, 21, 4, 28, 182, 1, 32, 54, 6]
abbrev dktX0_lateOf_0 : List UInt8 := dkwX0_lateOf_0 ++ dktX0_lateOf_1
theorem dksX0_lateOf_0 : cX0_lateOf.data.toList.drop 0 = dktX0_lateOf_0 := by decide +kernel
theorem dksX0_lateOf_1 : cX0_lateOf.data.toList.drop 24 = dktX0_lateOf_1 := dk_seg dksX0_lateOf_0 24 rfl rfl
theorem dksX0_lateOf_2 : cX0_lateOf.data.toList.drop 48 = dktX0_lateOf_2 := dk_seg dksX0_lateOf_1 24 rfl rfl
theorem dksX0_lateOf_3 : cX0_lateOf.data.toList.drop 70 = dktX0_lateOf_3 := dk_seg dksX0_lateOf_2 22 rfl rfl
theorem dksX0_lateOf_4 : cX0_lateOf.data.toList.drop 94 = dktX0_lateOf_4 := dk_seg dksX0_lateOf_3 24 rfl rfl
theorem dX0_lateOf_0 : decode cX0_lateOf 0 = .ok (.iconst 0, 1) := dk_3 (dk_at dksX0_lateOf_0 0 rfl rfl)
theorem dX0_lateOf_1 : decode cX0_lateOf 1 = .ok (.istore_n 3, 1) := dk_62 (dk_at dksX0_lateOf_0 1 rfl rfl)
theorem dX0_lateOf_2 : decode cX0_lateOf 2 = .ok (.iconst 0, 1) := dk_3 (dk_at dksX0_lateOf_0 2 rfl rfl)
theorem dX0_lateOf_3 : decode cX0_lateOf 3 = .ok (.istore 4, 2) := dk_54 4 (dk_at dksX0_lateOf_0 3 rfl rfl)
theorem dX0_lateOf_5 : decode cX0_lateOf 5 = .ok (.iload_n 1, 1) := dk_27 (dk_at dksX0_lateOf_0 5 rfl rfl)
theorem dX0_lateOf_6 : decode cX0_lateOf 6 = .ok (.istore 5, 2) := dk_54 5 (dk_at dksX0_lateOf_0 6 rfl rfl)
theorem dX0_lateOf_8 : decode cX0_lateOf 8 = .ok (.iload 5, 2) := dk_21 5 (dk_at dksX0_lateOf_0 8 rfl rfl)
theorem dX0_lateOf_10 : decode cX0_lateOf 10 = .ok (.ifCond .eq 98, 3) := dk_153 0 98 (dk_at dksX0_lateOf_0 10 rfl rfl)
theorem dX0_lateOf_13 : decode cX0_lateOf 13 = .ok (.aload_n 0, 1) := dk_42 (dk_at dksX0_lateOf_0 13 rfl rfl)
theorem dX0_lateOf_14 : decode cX0_lateOf 14 = .ok (.iload 5, 2) := dk_21 5 (dk_at dksX0_lateOf_0 14 rfl rfl)
theorem dX0_lateOf_16 : decode cX0_lateOf 16 = .ok (.iload 4, 2) := dk_21 4 (dk_at dksX0_lateOf_0 16 rfl rfl)
theorem dX0_lateOf_18 : decode cX0_lateOf 18 = .ok (.iload_n 2, 1) := dk_28 (dk_at dksX0_lateOf_0 18 rfl rfl)
theorem dX0_lateOf_19 : decode cX0_lateOf 19 = .ok (.invokevirtual 288, 3) := dk_182 1 32 (dk_at dksX0_lateOf_0 19 rfl rfl)
theorem dX0_lateOf_22 : decode cX0_lateOf 22 = .ok (.istore 6, 2) := dk_54 6 (dk_at dksX0_lateOf_0 22 rfl rfl)
theorem dX0_lateOf_24 : decode cX0_lateOf 24 = .ok (.iload 6, 2) := dk_21 6 (dk_at dksX0_lateOf_1 0 rfl rfl)
theorem dX0_lateOf_26 : decode cX0_lateOf 26 = .ok (.bipush (-4), 2) := dk_16 252 (dk_at dksX0_lateOf_1 2 rfl rfl)
theorem dX0_lateOf_28 : decode cX0_lateOf 28 = .ok (.if_icmp .ne 14, 3) := dk_160 0 14 (dk_at dksX0_lateOf_1 4 rfl rfl)
theorem dX0_lateOf_31 : decode cX0_lateOf 31 = .ok (.aload_n 0, 1) := dk_42 (dk_at dksX0_lateOf_1 7 rfl rfl)
theorem dX0_lateOf_32 : decode cX0_lateOf 32 = .ok (.iload 5, 2) := dk_21 5 (dk_at dksX0_lateOf_1 8 rfl rfl)
theorem dX0_lateOf_34 : decode cX0_lateOf 34 = .ok (.invokevirtual 291, 3) := dk_182 1 35 (dk_at dksX0_lateOf_1 10 rfl rfl)
theorem dX0_lateOf_37 : decode cX0_lateOf 37 = .ok (.istore 4, 2) := dk_54 4 (dk_at dksX0_lateOf_1 13 rfl rfl)
theorem dX0_lateOf_39 : decode cX0_lateOf 39 = .ok (.goto (-31), 3) := dk_167 255 225 (dk_at dksX0_lateOf_1 15 rfl rfl)
theorem dX0_lateOf_42 : decode cX0_lateOf 42 = .ok (.iload 4, 2) := dk_21 4 (dk_at dksX0_lateOf_1 18 rfl rfl)
theorem dX0_lateOf_44 : decode cX0_lateOf 44 = .ok (.aload_n 0, 1) := dk_42 (dk_at dksX0_lateOf_1 20 rfl rfl)
theorem dX0_lateOf_45 : decode cX0_lateOf 45 = .ok (.getfield 32, 3) := dk_180 0 32 (dk_at dksX0_lateOf_1 21 rfl rfl)
theorem dX0_lateOf_48 : decode cX0_lateOf 48 = .ok (.getfield 174, 3) := dk_180 0 174 (dk_at dksX0_lateOf_2 0 rfl rfl)
theorem dX0_lateOf_51 : decode cX0_lateOf 51 = .ok (.iload 6, 2) := dk_21 6 (dk_at dksX0_lateOf_2 3 rfl rfl)
theorem dX0_lateOf_53 : decode cX0_lateOf 53 = .ok (.baload, 1) := dk_51 (dk_at dksX0_lateOf_2 5 rfl rfl)
theorem dX0_lateOf_54 : decode cX0_lateOf 54 = .ok (.iadd, 1) := dk_96 (dk_at dksX0_lateOf_2 6 rfl rfl)
theorem dX0_lateOf_55 : decode cX0_lateOf 55 = .ok (.istore 4, 2) := dk_54 4 (dk_at dksX0_lateOf_2 7 rfl rfl)
theorem dX0_lateOf_57 : decode cX0_lateOf 57 = .ok (.aload_n 0, 1) := dk_42 (dk_at dksX0_lateOf_2 9 rfl rfl)
theorem dX0_lateOf_58 : decode cX0_lateOf 58 = .ok (.getfield 53, 3) := dk_180 0 53 (dk_at dksX0_lateOf_2 10 rfl rfl)
theorem dX0_lateOf_61 : decode cX0_lateOf 61 = .ok (.iload 6, 2) := dk_21 6 (dk_at dksX0_lateOf_2 13 rfl rfl)
theorem dX0_lateOf_63 : decode cX0_lateOf 63 = .ok (.iload 4, 2) := dk_21 4 (dk_at dksX0_lateOf_2 15 rfl rfl)
theorem dX0_lateOf_65 : decode cX0_lateOf 65 = .ok (.iastore, 1) := dk_79 (dk_at dksX0_lateOf_2 17 rfl rfl)
theorem dX0_lateOf_66 : decode cX0_lateOf 66 = .ok (.iload_n 3, 1) := dk_29 (dk_at dksX0_lateOf_2 18 rfl rfl)
theorem dX0_lateOf_67 : decode cX0_lateOf 67 = .ok (.iload 4, 2) := dk_21 4 (dk_at dksX0_lateOf_2 19 rfl rfl)
theorem dX0_lateOf_69 : decode cX0_lateOf 69 = .ok (.aload_n 0, 1) := dk_42 (dk_at dksX0_lateOf_2 21 rfl rfl)
theorem dX0_lateOf_70 : decode cX0_lateOf 70 = .ok (.getfield 32, 3) := dk_180 0 32 (dk_at dksX0_lateOf_3 0 rfl rfl)
theorem dX0_lateOf_73 : decode cX0_lateOf 73 = .ok (.getfield 171, 3) := dk_180 0 171 (dk_at dksX0_lateOf_3 3 rfl rfl)
theorem dX0_lateOf_76 : decode cX0_lateOf 76 = .ok (.iload 6, 2) := dk_21 6 (dk_at dksX0_lateOf_3 6 rfl rfl)
theorem dX0_lateOf_78 : decode cX0_lateOf 78 = .ok (.baload, 1) := dk_51 (dk_at dksX0_lateOf_3 8 rfl rfl)
theorem dX0_lateOf_79 : decode cX0_lateOf 79 = .ok (.iload_n 2, 1) := dk_28 (dk_at dksX0_lateOf_3 9 rfl rfl)
theorem dX0_lateOf_80 : decode cX0_lateOf 80 = .ok (.iadd, 1) := dk_96 (dk_at dksX0_lateOf_3 10 rfl rfl)
theorem dX0_lateOf_81 : decode cX0_lateOf 81 = .ok (.if_icmp .le 10, 3) := dk_164 0 10 (dk_at dksX0_lateOf_3 11 rfl rfl)
theorem dX0_lateOf_84 : decode cX0_lateOf 84 = .ok (.iconst 1, 1) := dk_4 (dk_at dksX0_lateOf_3 14 rfl rfl)
theorem dX0_lateOf_85 : decode cX0_lateOf 85 = .ok (.iload 6, 2) := dk_21 6 (dk_at dksX0_lateOf_3 15 rfl rfl)
theorem dX0_lateOf_87 : decode cX0_lateOf 87 = .ok (.ishl, 1) := dk_120 (dk_at dksX0_lateOf_3 17 rfl rfl)
theorem dX0_lateOf_88 : decode cX0_lateOf 88 = .ok (.goto 4, 3) := dk_167 0 4 (dk_at dksX0_lateOf_3 18 rfl rfl)
theorem dX0_lateOf_91 : decode cX0_lateOf 91 = .ok (.iconst 0, 1) := dk_3 (dk_at dksX0_lateOf_3 21 rfl rfl)
theorem dX0_lateOf_92 : decode cX0_lateOf 92 = .ok (.ior, 1) := dk_128 (dk_at dksX0_lateOf_3 22 rfl rfl)
theorem dX0_lateOf_93 : decode cX0_lateOf 93 = .ok (.istore_n 3, 1) := dk_62 (dk_at dksX0_lateOf_3 23 rfl rfl)
theorem dX0_lateOf_94 : decode cX0_lateOf 94 = .ok (.iload 5, 2) := dk_21 5 (dk_at dksX0_lateOf_4 0 rfl rfl)
theorem dX0_lateOf_96 : decode cX0_lateOf 96 = .ok (.iconst 1, 1) := dk_4 (dk_at dksX0_lateOf_4 2 rfl rfl)
theorem dX0_lateOf_97 : decode cX0_lateOf 97 = .ok (.iload 6, 2) := dk_21 6 (dk_at dksX0_lateOf_4 3 rfl rfl)
theorem dX0_lateOf_99 : decode cX0_lateOf 99 = .ok (.ishl, 1) := dk_120 (dk_at dksX0_lateOf_4 5 rfl rfl)
theorem dX0_lateOf_100 : decode cX0_lateOf 100 = .ok (.iconst (-1), 1) := dk_2 (dk_at dksX0_lateOf_4 6 rfl rfl)
theorem dX0_lateOf_101 : decode cX0_lateOf 101 = .ok (.ixor, 1) := dk_130 (dk_at dksX0_lateOf_4 7 rfl rfl)
theorem dX0_lateOf_102 : decode cX0_lateOf 102 = .ok (.iand, 1) := dk_126 (dk_at dksX0_lateOf_4 8 rfl rfl)
theorem dX0_lateOf_103 : decode cX0_lateOf 103 = .ok (.istore 5, 2) := dk_54 5 (dk_at dksX0_lateOf_4 9 rfl rfl)
theorem dX0_lateOf_105 : decode cX0_lateOf 105 = .ok (.goto (-97), 3) := dk_167 255 159 (dk_at dksX0_lateOf_4 11 rfl rfl)
theorem dX0_lateOf_108 : decode cX0_lateOf 108 = .ok (.iload_n 3, 1) := dk_29 (dk_at dksX0_lateOf_4 14 rfl rfl)
theorem dX0_lateOf_109 : decode cX0_lateOf 109 = .ok (.ireturn, 1) := dk_172 (dk_at dksX0_lateOf_4 15 rfl rfl)
abbrev cX0_next : ByteArray := prog_1_method_32_code
def yX0_next : MethodName := ⟨RX0, "next", "(III)I"⟩
def dkwX0_next_6 : List UInt8 := [153, 0, 8, 21, 8, 167, 0, 5, 21, 5, 54, 5, 132, 6, 1, 167, 255, 115, 21, 4, 172]
abbrev dktX0_next_6 : List UInt8 := dkwX0_next_6 ++ []
def dkwX0_next_5 : List UInt8 := [167, 0, 4, 3, 54, 9, 21, 9, 153, 0, 8, 21, 6, 167, 0, 5, 21, 4, 54, 4, 21, 9]
abbrev dktX0_next_5 : List UInt8 := dkwX0_next_5 ++ dktX0_next_6
def dkwX0_next_4 : List UInt8 := [159, 0, 21, 25, 7, 21, 8, 21, 6, 21, 5, 21, 4, 185, 1, 24, 5, 0, 153, 0, 7, 4]
abbrev dktX0_next_4 : List UInt8 := dkwX0_next_4 ++ dktX0_next_5
def dkwX0_next_3 : List UInt8 := [29, 96, 42, 180, 0, 32, 180, 0, 174, 21, 6, 51, 185, 1, 22, 3, 0, 54, 8, 21, 4, 16, 252]
abbrev dktX0_next_3 : List UInt8 := dkwX0_next_3 ++ dktX0_next_4
def dkwX0_next_2 : List UInt8 := [180, 0, 32, 180, 0, 165, 21, 6, 51, 50, 58, 7, 25, 7, 42, 180, 0, 32, 180, 0, 171, 21, 6, 51]
abbrev dktX0_next_2 : List UInt8 := dkwX0_next_2 ++ dktX0_next_3
def dkwX0_next_1 : List UInt8 := [153, 0, 125, 42, 180, 0, 32, 180, 0, 168, 21, 6, 51, 28, 163, 0, 111, 42, 180, 0, 19, 42]
abbrev dktX0_next_1 : List UInt8 := dkwX0_next_1 ++ dktX0_next_2
def dkwX0_next_0 : List UInt8 := [16, 252, 54, 4, 3, 54, 5, 3, 54, 6, 21, 6, 16, 12, 162, 0, 140, 27, 21, 6, 184, 0, 155]
abbrev dktX0_next_0 : List UInt8 := dkwX0_next_0 ++ dktX0_next_1
theorem dksX0_next_0 : cX0_next.data.toList.drop 0 = dktX0_next_0 := by decide +kernel
theorem dksX0_next_1 : cX0_next.data.toList.drop 23 = dktX0_next_1 := dk_seg dksX0_next_0 23 rfl rfl
theorem dksX0_next_2 : cX0_next.data.toList.drop 45 = dktX0_next_2 := dk_seg dksX0_next_1 22 rfl rfl
theorem dksX0_next_3 : cX0_next.data.toList.drop 69 = dktX0_next_3 := dk_seg dksX0_next_2 24 rfl rfl
theorem dksX0_next_4 : cX0_next.data.toList.drop 92 = dktX0_next_4 := dk_seg dksX0_next_3 23 rfl rfl
theorem dksX0_next_5 : cX0_next.data.toList.drop 114 = dktX0_next_5 := dk_seg dksX0_next_4 22 rfl rfl
theorem dksX0_next_6 : cX0_next.data.toList.drop 136 = dktX0_next_6 := dk_seg dksX0_next_5 22 rfl rfl
theorem dX0_next_0 : decode cX0_next 0 = .ok (.bipush (-4), 2) := dk_16 252 (dk_at dksX0_next_0 0 rfl rfl)
theorem dX0_next_2 : decode cX0_next 2 = .ok (.istore 4, 2) := dk_54 4 (dk_at dksX0_next_0 2 rfl rfl)
theorem dX0_next_4 : decode cX0_next 4 = .ok (.iconst 0, 1) := dk_3 (dk_at dksX0_next_0 4 rfl rfl)
theorem dX0_next_5 : decode cX0_next 5 = .ok (.istore 5, 2) := dk_54 5 (dk_at dksX0_next_0 5 rfl rfl)
theorem dX0_next_7 : decode cX0_next 7 = .ok (.iconst 0, 1) := dk_3 (dk_at dksX0_next_0 7 rfl rfl)
theorem dX0_next_8 : decode cX0_next 8 = .ok (.istore 6, 2) := dk_54 6 (dk_at dksX0_next_0 8 rfl rfl)
theorem dX0_next_10 : decode cX0_next 10 = .ok (.iload 6, 2) := dk_21 6 (dk_at dksX0_next_0 10 rfl rfl)
theorem dX0_next_12 : decode cX0_next 12 = .ok (.bipush 12, 2) := dk_16 12 (dk_at dksX0_next_0 12 rfl rfl)
theorem dX0_next_14 : decode cX0_next 14 = .ok (.if_icmp .ge 140, 3) := dk_162 0 140 (dk_at dksX0_next_0 14 rfl rfl)
theorem dX0_next_17 : decode cX0_next 17 = .ok (.iload_n 1, 1) := dk_27 (dk_at dksX0_next_0 17 rfl rfl)
theorem dX0_next_18 : decode cX0_next 18 = .ok (.iload 6, 2) := dk_21 6 (dk_at dksX0_next_0 18 rfl rfl)
theorem dX0_next_20 : decode cX0_next 20 = .ok (.invokestatic 155, 3) := dk_184 0 155 (dk_at dksX0_next_0 20 rfl rfl)
theorem dX0_next_23 : decode cX0_next 23 = .ok (.ifCond .eq 125, 3) := dk_153 0 125 (dk_at dksX0_next_1 0 rfl rfl)
theorem dX0_next_26 : decode cX0_next 26 = .ok (.aload_n 0, 1) := dk_42 (dk_at dksX0_next_1 3 rfl rfl)
theorem dX0_next_27 : decode cX0_next 27 = .ok (.getfield 32, 3) := dk_180 0 32 (dk_at dksX0_next_1 4 rfl rfl)
theorem dX0_next_30 : decode cX0_next 30 = .ok (.getfield 168, 3) := dk_180 0 168 (dk_at dksX0_next_1 7 rfl rfl)
theorem dX0_next_33 : decode cX0_next 33 = .ok (.iload 6, 2) := dk_21 6 (dk_at dksX0_next_1 10 rfl rfl)
theorem dX0_next_35 : decode cX0_next 35 = .ok (.baload, 1) := dk_51 (dk_at dksX0_next_1 12 rfl rfl)
theorem dX0_next_36 : decode cX0_next 36 = .ok (.iload_n 2, 1) := dk_28 (dk_at dksX0_next_1 13 rfl rfl)
theorem dX0_next_37 : decode cX0_next 37 = .ok (.if_icmp .gt 111, 3) := dk_163 0 111 (dk_at dksX0_next_1 14 rfl rfl)
theorem dX0_next_40 : decode cX0_next 40 = .ok (.aload_n 0, 1) := dk_42 (dk_at dksX0_next_1 17 rfl rfl)
theorem dX0_next_41 : decode cX0_next 41 = .ok (.getfield 19, 3) := dk_180 0 19 (dk_at dksX0_next_1 18 rfl rfl)
theorem dX0_next_44 : decode cX0_next 44 = .ok (.aload_n 0, 1) := dk_42 (dk_at dksX0_next_1 21 rfl rfl)
theorem dX0_next_45 : decode cX0_next 45 = .ok (.getfield 32, 3) := dk_180 0 32 (dk_at dksX0_next_2 0 rfl rfl)
theorem dX0_next_48 : decode cX0_next 48 = .ok (.getfield 165, 3) := dk_180 0 165 (dk_at dksX0_next_2 3 rfl rfl)
theorem dX0_next_51 : decode cX0_next 51 = .ok (.iload 6, 2) := dk_21 6 (dk_at dksX0_next_2 6 rfl rfl)
theorem dX0_next_53 : decode cX0_next 53 = .ok (.baload, 1) := dk_51 (dk_at dksX0_next_2 8 rfl rfl)
theorem dX0_next_54 : decode cX0_next 54 = .ok (.aaload, 1) := dk_50 (dk_at dksX0_next_2 9 rfl rfl)
theorem dX0_next_55 : decode cX0_next 55 = .ok (.astore 7, 2) := dk_58 7 (dk_at dksX0_next_2 10 rfl rfl)
theorem dX0_next_57 : decode cX0_next 57 = .ok (.aload 7, 2) := dk_25 7 (dk_at dksX0_next_2 12 rfl rfl)
theorem dX0_next_59 : decode cX0_next 59 = .ok (.aload_n 0, 1) := dk_42 (dk_at dksX0_next_2 14 rfl rfl)
theorem dX0_next_60 : decode cX0_next 60 = .ok (.getfield 32, 3) := dk_180 0 32 (dk_at dksX0_next_2 15 rfl rfl)
theorem dX0_next_63 : decode cX0_next 63 = .ok (.getfield 171, 3) := dk_180 0 171 (dk_at dksX0_next_2 18 rfl rfl)
theorem dX0_next_66 : decode cX0_next 66 = .ok (.iload 6, 2) := dk_21 6 (dk_at dksX0_next_2 21 rfl rfl)
theorem dX0_next_68 : decode cX0_next 68 = .ok (.baload, 1) := dk_51 (dk_at dksX0_next_2 23 rfl rfl)
theorem dX0_next_69 : decode cX0_next 69 = .ok (.iload_n 3, 1) := dk_29 (dk_at dksX0_next_3 0 rfl rfl)
theorem dX0_next_70 : decode cX0_next 70 = .ok (.iadd, 1) := dk_96 (dk_at dksX0_next_3 1 rfl rfl)
theorem dX0_next_71 : decode cX0_next 71 = .ok (.aload_n 0, 1) := dk_42 (dk_at dksX0_next_3 2 rfl rfl)
theorem dX0_next_72 : decode cX0_next 72 = .ok (.getfield 32, 3) := dk_180 0 32 (dk_at dksX0_next_3 3 rfl rfl)
theorem dX0_next_75 : decode cX0_next 75 = .ok (.getfield 174, 3) := dk_180 0 174 (dk_at dksX0_next_3 6 rfl rfl)
theorem dX0_next_78 : decode cX0_next 78 = .ok (.iload 6, 2) := dk_21 6 (dk_at dksX0_next_3 9 rfl rfl)
theorem dX0_next_80 : decode cX0_next 80 = .ok (.baload, 1) := dk_51 (dk_at dksX0_next_3 11 rfl rfl)
theorem dX0_next_81 : decode cX0_next 81 = .ok (.invokeinterface 278 3, 5) := by decide +kernel
theorem dX0_next_86 : decode cX0_next 86 = .ok (.istore 8, 2) := dk_54 8 (dk_at dksX0_next_3 17 rfl rfl)
theorem dX0_next_88 : decode cX0_next 88 = .ok (.iload 4, 2) := dk_21 4 (dk_at dksX0_next_3 19 rfl rfl)
theorem dX0_next_90 : decode cX0_next 90 = .ok (.bipush (-4), 2) := dk_16 252 (dk_at dksX0_next_3 21 rfl rfl)
theorem dX0_next_92 : decode cX0_next 92 = .ok (.if_icmp .eq 21, 3) := dk_159 0 21 (dk_at dksX0_next_4 0 rfl rfl)
theorem dX0_next_95 : decode cX0_next 95 = .ok (.aload 7, 2) := dk_25 7 (dk_at dksX0_next_4 3 rfl rfl)
theorem dX0_next_97 : decode cX0_next 97 = .ok (.iload 8, 2) := dk_21 8 (dk_at dksX0_next_4 5 rfl rfl)
theorem dX0_next_99 : decode cX0_next 99 = .ok (.iload 6, 2) := dk_21 6 (dk_at dksX0_next_4 7 rfl rfl)
theorem dX0_next_101 : decode cX0_next 101 = .ok (.iload 5, 2) := dk_21 5 (dk_at dksX0_next_4 9 rfl rfl)
theorem dX0_next_103 : decode cX0_next 103 = .ok (.iload 4, 2) := dk_21 4 (dk_at dksX0_next_4 11 rfl rfl)
theorem dX0_next_105 : decode cX0_next 105 = .ok (.invokeinterface 280 5, 5) := by decide +kernel
theorem dX0_next_110 : decode cX0_next 110 = .ok (.ifCond .eq 7, 3) := dk_153 0 7 (dk_at dksX0_next_4 18 rfl rfl)
theorem dX0_next_113 : decode cX0_next 113 = .ok (.iconst 1, 1) := dk_4 (dk_at dksX0_next_4 21 rfl rfl)
theorem dX0_next_114 : decode cX0_next 114 = .ok (.goto 4, 3) := dk_167 0 4 (dk_at dksX0_next_5 0 rfl rfl)
theorem dX0_next_117 : decode cX0_next 117 = .ok (.iconst 0, 1) := dk_3 (dk_at dksX0_next_5 3 rfl rfl)
theorem dX0_next_118 : decode cX0_next 118 = .ok (.istore 9, 2) := dk_54 9 (dk_at dksX0_next_5 4 rfl rfl)
theorem dX0_next_120 : decode cX0_next 120 = .ok (.iload 9, 2) := dk_21 9 (dk_at dksX0_next_5 6 rfl rfl)
theorem dX0_next_122 : decode cX0_next 122 = .ok (.ifCond .eq 8, 3) := dk_153 0 8 (dk_at dksX0_next_5 8 rfl rfl)
theorem dX0_next_125 : decode cX0_next 125 = .ok (.iload 6, 2) := dk_21 6 (dk_at dksX0_next_5 11 rfl rfl)
theorem dX0_next_127 : decode cX0_next 127 = .ok (.goto 5, 3) := dk_167 0 5 (dk_at dksX0_next_5 13 rfl rfl)
theorem dX0_next_130 : decode cX0_next 130 = .ok (.iload 4, 2) := dk_21 4 (dk_at dksX0_next_5 16 rfl rfl)
theorem dX0_next_132 : decode cX0_next 132 = .ok (.istore 4, 2) := dk_54 4 (dk_at dksX0_next_5 18 rfl rfl)
theorem dX0_next_134 : decode cX0_next 134 = .ok (.iload 9, 2) := dk_21 9 (dk_at dksX0_next_5 20 rfl rfl)
theorem dX0_next_136 : decode cX0_next 136 = .ok (.ifCond .eq 8, 3) := dk_153 0 8 (dk_at dksX0_next_6 0 rfl rfl)
theorem dX0_next_139 : decode cX0_next 139 = .ok (.iload 8, 2) := dk_21 8 (dk_at dksX0_next_6 3 rfl rfl)
theorem dX0_next_141 : decode cX0_next 141 = .ok (.goto 5, 3) := dk_167 0 5 (dk_at dksX0_next_6 5 rfl rfl)
theorem dX0_next_144 : decode cX0_next 144 = .ok (.iload 5, 2) := dk_21 5 (dk_at dksX0_next_6 8 rfl rfl)
theorem dX0_next_146 : decode cX0_next 146 = .ok (.istore 5, 2) := dk_54 5 (dk_at dksX0_next_6 10 rfl rfl)
theorem dX0_next_148 : decode cX0_next 148 = .ok (.iinc 6 1, 3) := dk_132 6 1 (dk_at dksX0_next_6 12 rfl rfl)
theorem dX0_next_151 : decode cX0_next 151 = .ok (.goto (-141), 3) := dk_167 255 115 (dk_at dksX0_next_6 15 rfl rfl)
theorem dX0_next_154 : decode cX0_next 154 = .ok (.iload 4, 2) := dk_21 4 (dk_at dksX0_next_6 18 rfl rfl)
theorem dX0_next_156 : decode cX0_next 156 = .ok (.ireturn, 1) := dk_172 (dk_at dksX0_next_6 20 rfl rfl)
abbrev cX0_leastStart : ByteArray := prog_1_method_33_code
def yX0_leastStart : MethodName := ⟨RX0, "leastStart", "(I)I"⟩
def dkwX0_leastStart_1 : List UInt8 := [180, 0, 32, 180, 0, 168, 29, 51, 184, 1, 29, 167, 0, 4, 28, 61, 132, 3, 1, 167, 255, 221, 28, 172]
abbrev dktX0_leastStart_1 : List UInt8 := dkwX0_leastStart_1 ++ []
def dkwX0_leastStart_0 : List UInt8 := [19, 1, 28, 61, 3, 62, 29, 16, 12, 162, 0, 35, 27, 29, 184, 0, 155, 153, 0, 19, 28, 42]
abbrev dktX0_leastStart_0 : List UInt8 := dkwX0_leastStart_0 ++ dktX0_leastStart_1
theorem dksX0_leastStart_0 : cX0_leastStart.data.toList.drop 0 = dktX0_leastStart_0 := by decide +kernel
theorem dksX0_leastStart_1 : cX0_leastStart.data.toList.drop 22 = dktX0_leastStart_1 := dk_seg dksX0_leastStart_0 22 rfl rfl
theorem dX0_leastStart_0 : decode cX0_leastStart 0 = .ok (.ldc_w 284, 3) := dk_19 1 28 (dk_at dksX0_leastStart_0 0 rfl rfl)
theorem dX0_leastStart_3 : decode cX0_leastStart 3 = .ok (.istore_n 2, 1) := dk_61 (dk_at dksX0_leastStart_0 3 rfl rfl)
theorem dX0_leastStart_4 : decode cX0_leastStart 4 = .ok (.iconst 0, 1) := dk_3 (dk_at dksX0_leastStart_0 4 rfl rfl)
theorem dX0_leastStart_5 : decode cX0_leastStart 5 = .ok (.istore_n 3, 1) := dk_62 (dk_at dksX0_leastStart_0 5 rfl rfl)
theorem dX0_leastStart_6 : decode cX0_leastStart 6 = .ok (.iload_n 3, 1) := dk_29 (dk_at dksX0_leastStart_0 6 rfl rfl)
theorem dX0_leastStart_7 : decode cX0_leastStart 7 = .ok (.bipush 12, 2) := dk_16 12 (dk_at dksX0_leastStart_0 7 rfl rfl)
theorem dX0_leastStart_9 : decode cX0_leastStart 9 = .ok (.if_icmp .ge 35, 3) := dk_162 0 35 (dk_at dksX0_leastStart_0 9 rfl rfl)
theorem dX0_leastStart_12 : decode cX0_leastStart 12 = .ok (.iload_n 1, 1) := dk_27 (dk_at dksX0_leastStart_0 12 rfl rfl)
theorem dX0_leastStart_13 : decode cX0_leastStart 13 = .ok (.iload_n 3, 1) := dk_29 (dk_at dksX0_leastStart_0 13 rfl rfl)
theorem dX0_leastStart_14 : decode cX0_leastStart 14 = .ok (.invokestatic 155, 3) := dk_184 0 155 (dk_at dksX0_leastStart_0 14 rfl rfl)
theorem dX0_leastStart_17 : decode cX0_leastStart 17 = .ok (.ifCond .eq 19, 3) := dk_153 0 19 (dk_at dksX0_leastStart_0 17 rfl rfl)
theorem dX0_leastStart_20 : decode cX0_leastStart 20 = .ok (.iload_n 2, 1) := dk_28 (dk_at dksX0_leastStart_0 20 rfl rfl)
theorem dX0_leastStart_21 : decode cX0_leastStart 21 = .ok (.aload_n 0, 1) := dk_42 (dk_at dksX0_leastStart_0 21 rfl rfl)
theorem dX0_leastStart_22 : decode cX0_leastStart 22 = .ok (.getfield 32, 3) := dk_180 0 32 (dk_at dksX0_leastStart_1 0 rfl rfl)
theorem dX0_leastStart_25 : decode cX0_leastStart 25 = .ok (.getfield 168, 3) := dk_180 0 168 (dk_at dksX0_leastStart_1 3 rfl rfl)
theorem dX0_leastStart_28 : decode cX0_leastStart 28 = .ok (.iload_n 3, 1) := dk_29 (dk_at dksX0_leastStart_1 6 rfl rfl)
theorem dX0_leastStart_29 : decode cX0_leastStart 29 = .ok (.baload, 1) := dk_51 (dk_at dksX0_leastStart_1 7 rfl rfl)
theorem dX0_leastStart_30 : decode cX0_leastStart 30 = .ok (.invokestatic 285, 3) := dk_184 1 29 (dk_at dksX0_leastStart_1 8 rfl rfl)
theorem dX0_leastStart_33 : decode cX0_leastStart 33 = .ok (.goto 4, 3) := dk_167 0 4 (dk_at dksX0_leastStart_1 11 rfl rfl)
theorem dX0_leastStart_36 : decode cX0_leastStart 36 = .ok (.iload_n 2, 1) := dk_28 (dk_at dksX0_leastStart_1 14 rfl rfl)
theorem dX0_leastStart_37 : decode cX0_leastStart 37 = .ok (.istore_n 2, 1) := dk_61 (dk_at dksX0_leastStart_1 15 rfl rfl)
theorem dX0_leastStart_38 : decode cX0_leastStart 38 = .ok (.iinc 3 1, 3) := dk_132 3 1 (dk_at dksX0_leastStart_1 16 rfl rfl)
theorem dX0_leastStart_41 : decode cX0_leastStart 41 = .ok (.goto (-35), 3) := dk_167 255 221 (dk_at dksX0_leastStart_1 19 rfl rfl)
theorem dX0_leastStart_44 : decode cX0_leastStart 44 = .ok (.iload_n 2, 1) := dk_28 (dk_at dksX0_leastStart_1 22 rfl rfl)
theorem dX0_leastStart_45 : decode cX0_leastStart 45 = .ok (.ireturn, 1) := dk_172 (dk_at dksX0_leastStart_1 23 rfl rfl)
abbrev cX0_late : ByteArray := prog_1_method_36_code
def yX0_late : MethodName := ⟨RX0, "late", "()I"⟩
def dkwX0_late_0 : List UInt8 := [42, 42, 180, 0, 32, 180, 0, 140, 3, 182, 1, 38, 172]
abbrev dktX0_late_0 : List UInt8 := dkwX0_late_0 ++ []
theorem dksX0_late_0 : cX0_late.data.toList.drop 0 = dktX0_late_0 := by decide +kernel
theorem dX0_late_0 : decode cX0_late 0 = .ok (.aload_n 0, 1) := dk_42 (dk_at dksX0_late_0 0 rfl rfl)
theorem dX0_late_1 : decode cX0_late 1 = .ok (.aload_n 0, 1) := dk_42 (dk_at dksX0_late_0 1 rfl rfl)
theorem dX0_late_2 : decode cX0_late 2 = .ok (.getfield 32, 3) := dk_180 0 32 (dk_at dksX0_late_0 2 rfl rfl)
theorem dX0_late_5 : decode cX0_late 5 = .ok (.getfield 140, 3) := dk_180 0 140 (dk_at dksX0_late_0 5 rfl rfl)
theorem dX0_late_8 : decode cX0_late 8 = .ok (.iconst 0, 1) := dk_3 (dk_at dksX0_late_0 8 rfl rfl)
theorem dX0_late_9 : decode cX0_late 9 = .ok (.invokevirtual 294, 3) := dk_182 1 38 (dk_at dksX0_late_0 9 rfl rfl)
theorem dX0_late_12 : decode cX0_late 12 = .ok (.ireturn, 1) := dk_172 (dk_at dksX0_late_0 12 rfl rfl)
abbrev cX0_drop : ByteArray := prog_1_method_37_code
def yX0_drop : MethodName := ⟨RX0, "drop", "(I)I"⟩
def dkwX0_drop_5 : List UInt8 := [28, 167, 0, 4, 29, 172]
abbrev dktX0_drop_5 : List UInt8 := dkwX0_drop_5 ++ []
def dkwX0_drop_4 : List UInt8 := [21, 4, 167, 0, 4, 28, 61, 29, 21, 5, 184, 1, 29, 62, 132, 4, 1, 167, 255, 181, 27, 154, 0, 7]
abbrev dktX0_drop_4 : List UInt8 := dkwX0_drop_4 ++ dktX0_drop_5
def dkwX0_drop_3 : List UInt8 := [130, 126, 3, 182, 1, 38, 184, 1, 41, 167, 0, 6, 19, 1, 28, 54, 5, 21, 5, 29, 162, 0, 8]
abbrev dktX0_drop_3 : List UInt8 := dkwX0_drop_3 ++ dktX0_drop_4
def dkwX0_drop_2 : List UInt8 := [180, 0, 140, 21, 4, 184, 0, 155, 153, 0, 28, 42, 42, 180, 0, 32, 180, 0, 140, 4, 21, 4, 120, 2]
abbrev dktX0_drop_2 : List UInt8 := dkwX0_drop_2 ++ dktX0_drop_3
def dkwX0_drop_1 : List UInt8 := [16, 254, 172, 16, 252, 61, 19, 1, 28, 62, 3, 54, 4, 21, 4, 16, 12, 162, 0, 74, 42, 180, 0, 32]
abbrev dktX0_drop_1 : List UInt8 := dkwX0_drop_1 ++ dktX0_drop_2
def dkwX0_drop_0 : List UInt8 := [27, 133, 9, 10, 184, 0, 93, 154, 0, 5, 2, 172, 42, 180, 0, 32, 182, 0, 124, 4, 160, 0, 6]
abbrev dktX0_drop_0 : List UInt8 := dkwX0_drop_0 ++ dktX0_drop_1
theorem dksX0_drop_0 : cX0_drop.data.toList.drop 0 = dktX0_drop_0 := by decide +kernel
theorem dksX0_drop_1 : cX0_drop.data.toList.drop 23 = dktX0_drop_1 := dk_seg dksX0_drop_0 23 rfl rfl
theorem dksX0_drop_2 : cX0_drop.data.toList.drop 47 = dktX0_drop_2 := dk_seg dksX0_drop_1 24 rfl rfl
theorem dksX0_drop_3 : cX0_drop.data.toList.drop 71 = dktX0_drop_3 := dk_seg dksX0_drop_2 24 rfl rfl
theorem dksX0_drop_4 : cX0_drop.data.toList.drop 94 = dktX0_drop_4 := dk_seg dksX0_drop_3 23 rfl rfl
theorem dksX0_drop_5 : cX0_drop.data.toList.drop 118 = dktX0_drop_5 := dk_seg dksX0_drop_4 24 rfl rfl
theorem dX0_drop_0 : decode cX0_drop 0 = .ok (.iload_n 1, 1) := dk_27 (dk_at dksX0_drop_0 0 rfl rfl)
theorem dX0_drop_1 : decode cX0_drop 1 = .ok (.i2l, 1) := dk_133 (dk_at dksX0_drop_0 1 rfl rfl)
theorem dX0_drop_2 : decode cX0_drop 2 = .ok (.lconst 0, 1) := dk_9 (dk_at dksX0_drop_0 2 rfl rfl)
theorem dX0_drop_3 : decode cX0_drop 3 = .ok (.lconst 1, 1) := dk_10 (dk_at dksX0_drop_0 3 rfl rfl)
theorem dX0_drop_4 : decode cX0_drop 4 = .ok (.invokestatic 93, 3) := dk_184 0 93 (dk_at dksX0_drop_0 4 rfl rfl)
theorem dX0_drop_7 : decode cX0_drop 7 = .ok (.ifCond .ne 5, 3) := dk_154 0 5 (dk_at dksX0_drop_0 7 rfl rfl)
theorem dX0_drop_10 : decode cX0_drop 10 = .ok (.iconst (-1), 1) := dk_2 (dk_at dksX0_drop_0 10 rfl rfl)
theorem dX0_drop_11 : decode cX0_drop 11 = .ok (.ireturn, 1) := dk_172 (dk_at dksX0_drop_0 11 rfl rfl)
theorem dX0_drop_12 : decode cX0_drop 12 = .ok (.aload_n 0, 1) := dk_42 (dk_at dksX0_drop_0 12 rfl rfl)
theorem dX0_drop_13 : decode cX0_drop 13 = .ok (.getfield 32, 3) := dk_180 0 32 (dk_at dksX0_drop_0 13 rfl rfl)
theorem dX0_drop_16 : decode cX0_drop 16 = .ok (.invokevirtual 124, 3) := dk_182 0 124 (dk_at dksX0_drop_0 16 rfl rfl)
theorem dX0_drop_19 : decode cX0_drop 19 = .ok (.iconst 1, 1) := dk_4 (dk_at dksX0_drop_0 19 rfl rfl)
theorem dX0_drop_20 : decode cX0_drop 20 = .ok (.if_icmp .ne 6, 3) := dk_160 0 6 (dk_at dksX0_drop_0 20 rfl rfl)
theorem dX0_drop_23 : decode cX0_drop 23 = .ok (.bipush (-2), 2) := dk_16 254 (dk_at dksX0_drop_1 0 rfl rfl)
theorem dX0_drop_25 : decode cX0_drop 25 = .ok (.ireturn, 1) := dk_172 (dk_at dksX0_drop_1 2 rfl rfl)
theorem dX0_drop_26 : decode cX0_drop 26 = .ok (.bipush (-4), 2) := dk_16 252 (dk_at dksX0_drop_1 3 rfl rfl)
theorem dX0_drop_28 : decode cX0_drop 28 = .ok (.istore_n 2, 1) := dk_61 (dk_at dksX0_drop_1 5 rfl rfl)
theorem dX0_drop_29 : decode cX0_drop 29 = .ok (.ldc_w 284, 3) := dk_19 1 28 (dk_at dksX0_drop_1 6 rfl rfl)
theorem dX0_drop_32 : decode cX0_drop 32 = .ok (.istore_n 3, 1) := dk_62 (dk_at dksX0_drop_1 9 rfl rfl)
theorem dX0_drop_33 : decode cX0_drop 33 = .ok (.iconst 0, 1) := dk_3 (dk_at dksX0_drop_1 10 rfl rfl)
theorem dX0_drop_34 : decode cX0_drop 34 = .ok (.istore 4, 2) := dk_54 4 (dk_at dksX0_drop_1 11 rfl rfl)
theorem dX0_drop_36 : decode cX0_drop 36 = .ok (.iload 4, 2) := dk_21 4 (dk_at dksX0_drop_1 13 rfl rfl)
theorem dX0_drop_38 : decode cX0_drop 38 = .ok (.bipush 12, 2) := dk_16 12 (dk_at dksX0_drop_1 15 rfl rfl)
theorem dX0_drop_40 : decode cX0_drop 40 = .ok (.if_icmp .ge 74, 3) := dk_162 0 74 (dk_at dksX0_drop_1 17 rfl rfl)
theorem dX0_drop_43 : decode cX0_drop 43 = .ok (.aload_n 0, 1) := dk_42 (dk_at dksX0_drop_1 20 rfl rfl)
theorem dX0_drop_44 : decode cX0_drop 44 = .ok (.getfield 32, 3) := dk_180 0 32 (dk_at dksX0_drop_1 21 rfl rfl)
theorem dX0_drop_47 : decode cX0_drop 47 = .ok (.getfield 140, 3) := dk_180 0 140 (dk_at dksX0_drop_2 0 rfl rfl)
theorem dX0_drop_50 : decode cX0_drop 50 = .ok (.iload 4, 2) := dk_21 4 (dk_at dksX0_drop_2 3 rfl rfl)
theorem dX0_drop_52 : decode cX0_drop 52 = .ok (.invokestatic 155, 3) := dk_184 0 155 (dk_at dksX0_drop_2 5 rfl rfl)
theorem dX0_drop_55 : decode cX0_drop 55 = .ok (.ifCond .eq 28, 3) := dk_153 0 28 (dk_at dksX0_drop_2 8 rfl rfl)
theorem dX0_drop_58 : decode cX0_drop 58 = .ok (.aload_n 0, 1) := dk_42 (dk_at dksX0_drop_2 11 rfl rfl)
theorem dX0_drop_59 : decode cX0_drop 59 = .ok (.aload_n 0, 1) := dk_42 (dk_at dksX0_drop_2 12 rfl rfl)
theorem dX0_drop_60 : decode cX0_drop 60 = .ok (.getfield 32, 3) := dk_180 0 32 (dk_at dksX0_drop_2 13 rfl rfl)
theorem dX0_drop_63 : decode cX0_drop 63 = .ok (.getfield 140, 3) := dk_180 0 140 (dk_at dksX0_drop_2 16 rfl rfl)
theorem dX0_drop_66 : decode cX0_drop 66 = .ok (.iconst 1, 1) := dk_4 (dk_at dksX0_drop_2 19 rfl rfl)
theorem dX0_drop_67 : decode cX0_drop 67 = .ok (.iload 4, 2) := dk_21 4 (dk_at dksX0_drop_2 20 rfl rfl)
theorem dX0_drop_69 : decode cX0_drop 69 = .ok (.ishl, 1) := dk_120 (dk_at dksX0_drop_2 22 rfl rfl)
theorem dX0_drop_70 : decode cX0_drop 70 = .ok (.iconst (-1), 1) := dk_2 (dk_at dksX0_drop_2 23 rfl rfl)
theorem dX0_drop_71 : decode cX0_drop 71 = .ok (.ixor, 1) := dk_130 (dk_at dksX0_drop_3 0 rfl rfl)
theorem dX0_drop_72 : decode cX0_drop 72 = .ok (.iand, 1) := dk_126 (dk_at dksX0_drop_3 1 rfl rfl)
theorem dX0_drop_73 : decode cX0_drop 73 = .ok (.iconst 0, 1) := dk_3 (dk_at dksX0_drop_3 2 rfl rfl)
theorem dX0_drop_74 : decode cX0_drop 74 = .ok (.invokevirtual 294, 3) := dk_182 1 38 (dk_at dksX0_drop_3 3 rfl rfl)
theorem dX0_drop_77 : decode cX0_drop 77 = .ok (.invokestatic 297, 3) := dk_184 1 41 (dk_at dksX0_drop_3 6 rfl rfl)
theorem dX0_drop_80 : decode cX0_drop 80 = .ok (.goto 6, 3) := dk_167 0 6 (dk_at dksX0_drop_3 9 rfl rfl)
theorem dX0_drop_83 : decode cX0_drop 83 = .ok (.ldc_w 284, 3) := dk_19 1 28 (dk_at dksX0_drop_3 12 rfl rfl)
theorem dX0_drop_86 : decode cX0_drop 86 = .ok (.istore 5, 2) := dk_54 5 (dk_at dksX0_drop_3 15 rfl rfl)
theorem dX0_drop_88 : decode cX0_drop 88 = .ok (.iload 5, 2) := dk_21 5 (dk_at dksX0_drop_3 17 rfl rfl)
theorem dX0_drop_90 : decode cX0_drop 90 = .ok (.iload_n 3, 1) := dk_29 (dk_at dksX0_drop_3 19 rfl rfl)
theorem dX0_drop_91 : decode cX0_drop 91 = .ok (.if_icmp .ge 8, 3) := dk_162 0 8 (dk_at dksX0_drop_3 20 rfl rfl)
theorem dX0_drop_94 : decode cX0_drop 94 = .ok (.iload 4, 2) := dk_21 4 (dk_at dksX0_drop_4 0 rfl rfl)
theorem dX0_drop_96 : decode cX0_drop 96 = .ok (.goto 4, 3) := dk_167 0 4 (dk_at dksX0_drop_4 2 rfl rfl)
theorem dX0_drop_99 : decode cX0_drop 99 = .ok (.iload_n 2, 1) := dk_28 (dk_at dksX0_drop_4 5 rfl rfl)
theorem dX0_drop_100 : decode cX0_drop 100 = .ok (.istore_n 2, 1) := dk_61 (dk_at dksX0_drop_4 6 rfl rfl)
theorem dX0_drop_101 : decode cX0_drop 101 = .ok (.iload_n 3, 1) := dk_29 (dk_at dksX0_drop_4 7 rfl rfl)
theorem dX0_drop_102 : decode cX0_drop 102 = .ok (.iload 5, 2) := dk_21 5 (dk_at dksX0_drop_4 8 rfl rfl)
theorem dX0_drop_104 : decode cX0_drop 104 = .ok (.invokestatic 285, 3) := dk_184 1 29 (dk_at dksX0_drop_4 10 rfl rfl)
theorem dX0_drop_107 : decode cX0_drop 107 = .ok (.istore_n 3, 1) := dk_62 (dk_at dksX0_drop_4 13 rfl rfl)
theorem dX0_drop_108 : decode cX0_drop 108 = .ok (.iinc 4 1, 3) := dk_132 4 1 (dk_at dksX0_drop_4 14 rfl rfl)
theorem dX0_drop_111 : decode cX0_drop 111 = .ok (.goto (-75), 3) := dk_167 255 181 (dk_at dksX0_drop_4 17 rfl rfl)
theorem dX0_drop_114 : decode cX0_drop 114 = .ok (.iload_n 1, 1) := dk_27 (dk_at dksX0_drop_4 20 rfl rfl)
theorem dX0_drop_115 : decode cX0_drop 115 = .ok (.ifCond .ne 7, 3) := dk_154 0 7 (dk_at dksX0_drop_4 21 rfl rfl)
theorem dX0_drop_118 : decode cX0_drop 118 = .ok (.iload_n 2, 1) := dk_28 (dk_at dksX0_drop_5 0 rfl rfl)
theorem dX0_drop_119 : decode cX0_drop 119 = .ok (.goto 4, 3) := dk_167 0 4 (dk_at dksX0_drop_5 1 rfl rfl)
theorem dX0_drop_122 : decode cX0_drop 122 = .ok (.iload_n 3, 1) := dk_29 (dk_at dksX0_drop_5 4 rfl rfl)
theorem dX0_drop_123 : decode cX0_drop 123 = .ok (.ireturn, 1) := dk_172 (dk_at dksX0_drop_5 5 rfl rfl)
abbrev cX0_more : ByteArray := prog_1_method_38_code
def yX0_more : MethodName := ⟨RX0, "more", "()I"⟩
def dkwX0_more_1 : List UInt8 := [172, 132, 1, 1, 167, 255, 230, 16, 252, 172]
abbrev dktX0_more_1 : List UInt8 := dkwX0_more_1 ++ []
def dkwX0_more_0 : List UInt8 := [3, 60, 27, 16, 99, 163, 0, 26, 42, 42, 180, 0, 32, 180, 0, 140, 27, 182, 1, 38, 154, 0, 5, 27]
abbrev dktX0_more_0 : List UInt8 := dkwX0_more_0 ++ dktX0_more_1
theorem dksX0_more_0 : cX0_more.data.toList.drop 0 = dktX0_more_0 := by decide +kernel
theorem dksX0_more_1 : cX0_more.data.toList.drop 24 = dktX0_more_1 := dk_seg dksX0_more_0 24 rfl rfl
theorem dX0_more_0 : decode cX0_more 0 = .ok (.iconst 0, 1) := dk_3 (dk_at dksX0_more_0 0 rfl rfl)
theorem dX0_more_1 : decode cX0_more 1 = .ok (.istore_n 1, 1) := dk_60 (dk_at dksX0_more_0 1 rfl rfl)
theorem dX0_more_2 : decode cX0_more 2 = .ok (.iload_n 1, 1) := dk_27 (dk_at dksX0_more_0 2 rfl rfl)
theorem dX0_more_3 : decode cX0_more 3 = .ok (.bipush 99, 2) := dk_16 99 (dk_at dksX0_more_0 3 rfl rfl)
theorem dX0_more_5 : decode cX0_more 5 = .ok (.if_icmp .gt 26, 3) := dk_163 0 26 (dk_at dksX0_more_0 5 rfl rfl)
theorem dX0_more_8 : decode cX0_more 8 = .ok (.aload_n 0, 1) := dk_42 (dk_at dksX0_more_0 8 rfl rfl)
theorem dX0_more_9 : decode cX0_more 9 = .ok (.aload_n 0, 1) := dk_42 (dk_at dksX0_more_0 9 rfl rfl)
theorem dX0_more_10 : decode cX0_more 10 = .ok (.getfield 32, 3) := dk_180 0 32 (dk_at dksX0_more_0 10 rfl rfl)
theorem dX0_more_13 : decode cX0_more 13 = .ok (.getfield 140, 3) := dk_180 0 140 (dk_at dksX0_more_0 13 rfl rfl)
theorem dX0_more_16 : decode cX0_more 16 = .ok (.iload_n 1, 1) := dk_27 (dk_at dksX0_more_0 16 rfl rfl)
theorem dX0_more_17 : decode cX0_more 17 = .ok (.invokevirtual 294, 3) := dk_182 1 38 (dk_at dksX0_more_0 17 rfl rfl)
theorem dX0_more_20 : decode cX0_more 20 = .ok (.ifCond .ne 5, 3) := dk_154 0 5 (dk_at dksX0_more_0 20 rfl rfl)
theorem dX0_more_23 : decode cX0_more 23 = .ok (.iload_n 1, 1) := dk_27 (dk_at dksX0_more_0 23 rfl rfl)
theorem dX0_more_24 : decode cX0_more 24 = .ok (.ireturn, 1) := dk_172 (dk_at dksX0_more_1 0 rfl rfl)
theorem dX0_more_25 : decode cX0_more 25 = .ok (.iinc 1 1, 3) := dk_132 1 1 (dk_at dksX0_more_1 1 rfl rfl)
theorem dX0_more_28 : decode cX0_more 28 = .ok (.goto (-26), 3) := dk_167 255 230 (dk_at dksX0_more_1 4 rfl rfl)
theorem dX0_more_31 : decode cX0_more 31 = .ok (.bipush (-4), 2) := dk_16 252 (dk_at dksX0_more_1 7 rfl rfl)
theorem dX0_more_33 : decode cX0_more 33 = .ok (.ireturn, 1) := dk_172 (dk_at dksX0_more_1 9 rfl rfl)
abbrev cX0_day : ByteArray := prog_1_method_41_code
def yX0_day : MethodName := ⟨RX0, "day", "(III)I"⟩
def dkwX0_day_6 : List UInt8 := [21, 4, 172]
abbrev dktX0_day_6 : List UInt8 := dkwX0_day_6 ++ []
def dkwX0_day_5 : List UInt8 := [182, 0, 124, 167, 0, 23, 29, 4, 160, 0, 16, 42, 180, 0, 35, 180, 0, 180, 180, 0, 1, 167, 0, 5]
abbrev dktX0_day_5 : List UInt8 := dkwX0_day_5 ++ dktX0_day_6
def dkwX0_day_4 : List UInt8 := [113, 136, 182, 1, 58, 96, 54, 4, 132, 5, 1, 167, 255, 206, 29, 154, 0, 13, 42, 180, 0, 35]
abbrev dktX0_day_4 : List UInt8 := dkwX0_day_4 ++ dktX0_day_5
def dkwX0_day_3 : List UInt8 := [21, 5, 133, 105, 97, 10, 97, 55, 6, 21, 4, 42, 42, 180, 0, 35, 22, 6, 22, 6, 105, 20, 1, 56]
abbrev dktX0_day_3 : List UInt8 := dkwX0_day_3 ++ dktX0_day_4
def dkwX0_day_2 : List UInt8 := [180, 0, 32, 182, 0, 143, 3, 54, 5, 21, 5, 28, 162, 0, 50, 20, 1, 52, 27, 133, 105, 20, 1, 54]
abbrev dktX0_day_2 : List UInt8 := dkwX0_day_2 ++ dktX0_day_3
def dkwX0_day_1 : List UInt8 := [29, 133, 9, 20, 0, 114, 184, 0, 93, 154, 0, 5, 2, 172, 3, 54, 4, 42, 180, 0, 35, 42]
abbrev dktX0_day_1 : List UInt8 := dkwX0_day_1 ++ dktX0_day_2
def dkwX0_day_0 : List UInt8 := [27, 133, 9, 20, 1, 48, 184, 0, 93, 153, 0, 27, 28, 133, 10, 20, 1, 50, 184, 0, 93, 153, 0, 15]
abbrev dktX0_day_0 : List UInt8 := dkwX0_day_0 ++ dktX0_day_1
theorem dksX0_day_0 : cX0_day.data.toList.drop 0 = dktX0_day_0 := by decide +kernel
theorem dksX0_day_1 : cX0_day.data.toList.drop 24 = dktX0_day_1 := dk_seg dksX0_day_0 24 rfl rfl
theorem dksX0_day_2 : cX0_day.data.toList.drop 46 = dktX0_day_2 := dk_seg dksX0_day_1 22 rfl rfl
theorem dksX0_day_3 : cX0_day.data.toList.drop 70 = dktX0_day_3 := dk_seg dksX0_day_2 24 rfl rfl
theorem dksX0_day_4 : cX0_day.data.toList.drop 94 = dktX0_day_4 := dk_seg dksX0_day_3 24 rfl rfl
theorem dksX0_day_5 : cX0_day.data.toList.drop 116 = dktX0_day_5 := dk_seg dksX0_day_4 22 rfl rfl
theorem dksX0_day_6 : cX0_day.data.toList.drop 140 = dktX0_day_6 := dk_seg dksX0_day_5 24 rfl rfl
theorem dX0_day_0 : decode cX0_day 0 = .ok (.iload_n 1, 1) := dk_27 (dk_at dksX0_day_0 0 rfl rfl)
theorem dX0_day_1 : decode cX0_day 1 = .ok (.i2l, 1) := dk_133 (dk_at dksX0_day_0 1 rfl rfl)
theorem dX0_day_2 : decode cX0_day 2 = .ok (.lconst 0, 1) := dk_9 (dk_at dksX0_day_0 2 rfl rfl)
theorem dX0_day_3 : decode cX0_day 3 = .ok (.ldc2_w 304, 3) := dk_20 1 48 (dk_at dksX0_day_0 3 rfl rfl)
theorem dX0_day_6 : decode cX0_day 6 = .ok (.invokestatic 93, 3) := dk_184 0 93 (dk_at dksX0_day_0 6 rfl rfl)
theorem dX0_day_9 : decode cX0_day 9 = .ok (.ifCond .eq 27, 3) := dk_153 0 27 (dk_at dksX0_day_0 9 rfl rfl)
theorem dX0_day_12 : decode cX0_day 12 = .ok (.iload_n 2, 1) := dk_28 (dk_at dksX0_day_0 12 rfl rfl)
theorem dX0_day_13 : decode cX0_day 13 = .ok (.i2l, 1) := dk_133 (dk_at dksX0_day_0 13 rfl rfl)
theorem dX0_day_14 : decode cX0_day 14 = .ok (.lconst 1, 1) := dk_10 (dk_at dksX0_day_0 14 rfl rfl)
theorem dX0_day_15 : decode cX0_day 15 = .ok (.ldc2_w 306, 3) := dk_20 1 50 (dk_at dksX0_day_0 15 rfl rfl)
theorem dX0_day_18 : decode cX0_day 18 = .ok (.invokestatic 93, 3) := dk_184 0 93 (dk_at dksX0_day_0 18 rfl rfl)
theorem dX0_day_21 : decode cX0_day 21 = .ok (.ifCond .eq 15, 3) := dk_153 0 15 (dk_at dksX0_day_0 21 rfl rfl)
theorem dX0_day_24 : decode cX0_day 24 = .ok (.iload_n 3, 1) := dk_29 (dk_at dksX0_day_1 0 rfl rfl)
theorem dX0_day_25 : decode cX0_day 25 = .ok (.i2l, 1) := dk_133 (dk_at dksX0_day_1 1 rfl rfl)
theorem dX0_day_26 : decode cX0_day 26 = .ok (.lconst 0, 1) := dk_9 (dk_at dksX0_day_1 2 rfl rfl)
theorem dX0_day_27 : decode cX0_day 27 = .ok (.ldc2_w 114, 3) := dk_20 0 114 (dk_at dksX0_day_1 3 rfl rfl)
theorem dX0_day_30 : decode cX0_day 30 = .ok (.invokestatic 93, 3) := dk_184 0 93 (dk_at dksX0_day_1 6 rfl rfl)
theorem dX0_day_33 : decode cX0_day 33 = .ok (.ifCond .ne 5, 3) := dk_154 0 5 (dk_at dksX0_day_1 9 rfl rfl)
theorem dX0_day_36 : decode cX0_day 36 = .ok (.iconst (-1), 1) := dk_2 (dk_at dksX0_day_1 12 rfl rfl)
theorem dX0_day_37 : decode cX0_day 37 = .ok (.ireturn, 1) := dk_172 (dk_at dksX0_day_1 13 rfl rfl)
theorem dX0_day_38 : decode cX0_day 38 = .ok (.iconst 0, 1) := dk_3 (dk_at dksX0_day_1 14 rfl rfl)
theorem dX0_day_39 : decode cX0_day 39 = .ok (.istore 4, 2) := dk_54 4 (dk_at dksX0_day_1 15 rfl rfl)
theorem dX0_day_41 : decode cX0_day 41 = .ok (.aload_n 0, 1) := dk_42 (dk_at dksX0_day_1 17 rfl rfl)
theorem dX0_day_42 : decode cX0_day 42 = .ok (.getfield 35, 3) := dk_180 0 35 (dk_at dksX0_day_1 18 rfl rfl)
theorem dX0_day_45 : decode cX0_day 45 = .ok (.aload_n 0, 1) := dk_42 (dk_at dksX0_day_1 21 rfl rfl)
theorem dX0_day_46 : decode cX0_day 46 = .ok (.getfield 32, 3) := dk_180 0 32 (dk_at dksX0_day_2 0 rfl rfl)
theorem dX0_day_49 : decode cX0_day 49 = .ok (.invokevirtual 143, 3) := dk_182 0 143 (dk_at dksX0_day_2 3 rfl rfl)
theorem dX0_day_52 : decode cX0_day 52 = .ok (.iconst 0, 1) := dk_3 (dk_at dksX0_day_2 6 rfl rfl)
theorem dX0_day_53 : decode cX0_day 53 = .ok (.istore 5, 2) := dk_54 5 (dk_at dksX0_day_2 7 rfl rfl)
theorem dX0_day_55 : decode cX0_day 55 = .ok (.iload 5, 2) := dk_21 5 (dk_at dksX0_day_2 9 rfl rfl)
theorem dX0_day_57 : decode cX0_day 57 = .ok (.iload_n 2, 1) := dk_28 (dk_at dksX0_day_2 11 rfl rfl)
theorem dX0_day_58 : decode cX0_day 58 = .ok (.if_icmp .ge 50, 3) := dk_162 0 50 (dk_at dksX0_day_2 12 rfl rfl)
theorem dX0_day_61 : decode cX0_day 61 = .ok (.ldc2_w 308, 3) := dk_20 1 52 (dk_at dksX0_day_2 15 rfl rfl)
theorem dX0_day_64 : decode cX0_day 64 = .ok (.iload_n 1, 1) := dk_27 (dk_at dksX0_day_2 18 rfl rfl)
theorem dX0_day_65 : decode cX0_day 65 = .ok (.i2l, 1) := dk_133 (dk_at dksX0_day_2 19 rfl rfl)
theorem dX0_day_66 : decode cX0_day 66 = .ok (.lmul, 1) := dk_105 (dk_at dksX0_day_2 20 rfl rfl)
theorem dX0_day_67 : decode cX0_day 67 = .ok (.ldc2_w 310, 3) := dk_20 1 54 (dk_at dksX0_day_2 21 rfl rfl)
theorem dX0_day_70 : decode cX0_day 70 = .ok (.iload 5, 2) := dk_21 5 (dk_at dksX0_day_3 0 rfl rfl)
theorem dX0_day_72 : decode cX0_day 72 = .ok (.i2l, 1) := dk_133 (dk_at dksX0_day_3 2 rfl rfl)
theorem dX0_day_73 : decode cX0_day 73 = .ok (.lmul, 1) := dk_105 (dk_at dksX0_day_3 3 rfl rfl)
theorem dX0_day_74 : decode cX0_day 74 = .ok (.ladd, 1) := dk_97 (dk_at dksX0_day_3 4 rfl rfl)
theorem dX0_day_75 : decode cX0_day 75 = .ok (.lconst 1, 1) := dk_10 (dk_at dksX0_day_3 5 rfl rfl)
theorem dX0_day_76 : decode cX0_day 76 = .ok (.ladd, 1) := dk_97 (dk_at dksX0_day_3 6 rfl rfl)
theorem dX0_day_77 : decode cX0_day 77 = .ok (.lstore 6, 2) := dk_55 6 (dk_at dksX0_day_3 7 rfl rfl)
theorem dX0_day_79 : decode cX0_day 79 = .ok (.iload 4, 2) := dk_21 4 (dk_at dksX0_day_3 9 rfl rfl)
theorem dX0_day_81 : decode cX0_day 81 = .ok (.aload_n 0, 1) := dk_42 (dk_at dksX0_day_3 11 rfl rfl)
theorem dX0_day_82 : decode cX0_day 82 = .ok (.aload_n 0, 1) := dk_42 (dk_at dksX0_day_3 12 rfl rfl)
theorem dX0_day_83 : decode cX0_day 83 = .ok (.getfield 35, 3) := dk_180 0 35 (dk_at dksX0_day_3 13 rfl rfl)
theorem dX0_day_86 : decode cX0_day 86 = .ok (.lload 6, 2) := dk_22 6 (dk_at dksX0_day_3 16 rfl rfl)
theorem dX0_day_88 : decode cX0_day 88 = .ok (.lload 6, 2) := dk_22 6 (dk_at dksX0_day_3 18 rfl rfl)
theorem dX0_day_90 : decode cX0_day 90 = .ok (.lmul, 1) := dk_105 (dk_at dksX0_day_3 20 rfl rfl)
theorem dX0_day_91 : decode cX0_day 91 = .ok (.ldc2_w 312, 3) := dk_20 1 56 (dk_at dksX0_day_3 21 rfl rfl)
theorem dX0_day_94 : decode cX0_day 94 = .ok (.lrem, 1) := dk_113 (dk_at dksX0_day_4 0 rfl rfl)
theorem dX0_day_95 : decode cX0_day 95 = .ok (.l2i, 1) := dk_136 (dk_at dksX0_day_4 1 rfl rfl)
theorem dX0_day_96 : decode cX0_day 96 = .ok (.invokevirtual 314, 3) := dk_182 1 58 (dk_at dksX0_day_4 2 rfl rfl)
theorem dX0_day_99 : decode cX0_day 99 = .ok (.iadd, 1) := dk_96 (dk_at dksX0_day_4 5 rfl rfl)
theorem dX0_day_100 : decode cX0_day 100 = .ok (.istore 4, 2) := dk_54 4 (dk_at dksX0_day_4 6 rfl rfl)
theorem dX0_day_102 : decode cX0_day 102 = .ok (.iinc 5 1, 3) := dk_132 5 1 (dk_at dksX0_day_4 8 rfl rfl)
theorem dX0_day_105 : decode cX0_day 105 = .ok (.goto (-50), 3) := dk_167 255 206 (dk_at dksX0_day_4 11 rfl rfl)
theorem dX0_day_108 : decode cX0_day 108 = .ok (.iload_n 3, 1) := dk_29 (dk_at dksX0_day_4 14 rfl rfl)
theorem dX0_day_109 : decode cX0_day 109 = .ok (.ifCond .ne 13, 3) := dk_154 0 13 (dk_at dksX0_day_4 15 rfl rfl)
theorem dX0_day_112 : decode cX0_day 112 = .ok (.aload_n 0, 1) := dk_42 (dk_at dksX0_day_4 18 rfl rfl)
theorem dX0_day_113 : decode cX0_day 113 = .ok (.getfield 35, 3) := dk_180 0 35 (dk_at dksX0_day_4 19 rfl rfl)
theorem dX0_day_116 : decode cX0_day 116 = .ok (.invokevirtual 124, 3) := dk_182 0 124 (dk_at dksX0_day_5 0 rfl rfl)
theorem dX0_day_119 : decode cX0_day 119 = .ok (.goto 23, 3) := dk_167 0 23 (dk_at dksX0_day_5 3 rfl rfl)
theorem dX0_day_122 : decode cX0_day 122 = .ok (.iload_n 3, 1) := dk_29 (dk_at dksX0_day_5 6 rfl rfl)
theorem dX0_day_123 : decode cX0_day 123 = .ok (.iconst 1, 1) := dk_4 (dk_at dksX0_day_5 7 rfl rfl)
theorem dX0_day_124 : decode cX0_day 124 = .ok (.if_icmp .ne 16, 3) := dk_160 0 16 (dk_at dksX0_day_5 8 rfl rfl)
theorem dX0_day_127 : decode cX0_day 127 = .ok (.aload_n 0, 1) := dk_42 (dk_at dksX0_day_5 11 rfl rfl)
theorem dX0_day_128 : decode cX0_day 128 = .ok (.getfield 35, 3) := dk_180 0 35 (dk_at dksX0_day_5 12 rfl rfl)
theorem dX0_day_131 : decode cX0_day 131 = .ok (.getfield 180, 3) := dk_180 0 180 (dk_at dksX0_day_5 15 rfl rfl)
theorem dX0_day_134 : decode cX0_day 134 = .ok (.getfield 1, 3) := dk_180 0 1 (dk_at dksX0_day_5 18 rfl rfl)
theorem dX0_day_137 : decode cX0_day 137 = .ok (.goto 5, 3) := dk_167 0 5 (dk_at dksX0_day_5 21 rfl rfl)
theorem dX0_day_140 : decode cX0_day 140 = .ok (.iload 4, 2) := dk_21 4 (dk_at dksX0_day_6 0 rfl rfl)
theorem dX0_day_142 : decode cX0_day 142 = .ok (.ireturn, 1) := dk_172 (dk_at dksX0_day_6 2 rfl rfl)
abbrev cX0_goDrawn : ByteArray := prog_1_method_39_code
def yX0_goDrawn : MethodName := ⟨RX0, "goDrawn", "(LDeadlineTree$State;I)I"⟩
def dkwX0_goDrawn_2 : List UInt8 := [3, 167, 0, 14, 42, 43, 28, 7, 108, 16, 12, 112, 182, 1, 44, 172]
abbrev dktX0_goDrawn_2 : List UInt8 := dkwX0_goDrawn_2 ++ []
def dkwX0_goDrawn_1 : List UInt8 := [28, 16, 16, 108, 16, 100, 112, 28, 16, 32, 108, 16, 100, 112, 4, 182, 0, 127, 172, 29, 5, 162, 0, 7]
abbrev dktX0_goDrawn_1 : List UInt8 := dkwX0_goDrawn_1 ++ dktX0_goDrawn_2
def dkwX0_goDrawn_0 : List UInt8 := [43, 182, 0, 124, 62, 28, 7, 112, 5, 162, 0, 34, 29, 16, 12, 162, 0, 28, 43, 28, 7, 108, 7, 112]
abbrev dktX0_goDrawn_0 : List UInt8 := dkwX0_goDrawn_0 ++ dktX0_goDrawn_1
theorem dksX0_goDrawn_0 : cX0_goDrawn.data.toList.drop 0 = dktX0_goDrawn_0 := by decide +kernel
theorem dksX0_goDrawn_1 : cX0_goDrawn.data.toList.drop 24 = dktX0_goDrawn_1 := dk_seg dksX0_goDrawn_0 24 rfl rfl
theorem dksX0_goDrawn_2 : cX0_goDrawn.data.toList.drop 48 = dktX0_goDrawn_2 := dk_seg dksX0_goDrawn_1 24 rfl rfl
theorem dX0_goDrawn_0 : decode cX0_goDrawn 0 = .ok (.aload_n 1, 1) := dk_43 (dk_at dksX0_goDrawn_0 0 rfl rfl)
theorem dX0_goDrawn_1 : decode cX0_goDrawn 1 = .ok (.invokevirtual 124, 3) := dk_182 0 124 (dk_at dksX0_goDrawn_0 1 rfl rfl)
theorem dX0_goDrawn_4 : decode cX0_goDrawn 4 = .ok (.istore_n 3, 1) := dk_62 (dk_at dksX0_goDrawn_0 4 rfl rfl)
theorem dX0_goDrawn_5 : decode cX0_goDrawn 5 = .ok (.iload_n 2, 1) := dk_28 (dk_at dksX0_goDrawn_0 5 rfl rfl)
theorem dX0_goDrawn_6 : decode cX0_goDrawn 6 = .ok (.iconst 4, 1) := dk_7 (dk_at dksX0_goDrawn_0 6 rfl rfl)
theorem dX0_goDrawn_7 : decode cX0_goDrawn 7 = .ok (.irem, 1) := dk_112 (dk_at dksX0_goDrawn_0 7 rfl rfl)
theorem dX0_goDrawn_8 : decode cX0_goDrawn 8 = .ok (.iconst 2, 1) := dk_5 (dk_at dksX0_goDrawn_0 8 rfl rfl)
theorem dX0_goDrawn_9 : decode cX0_goDrawn 9 = .ok (.if_icmp .ge 34, 3) := dk_162 0 34 (dk_at dksX0_goDrawn_0 9 rfl rfl)
theorem dX0_goDrawn_12 : decode cX0_goDrawn 12 = .ok (.iload_n 3, 1) := dk_29 (dk_at dksX0_goDrawn_0 12 rfl rfl)
theorem dX0_goDrawn_13 : decode cX0_goDrawn 13 = .ok (.bipush 12, 2) := dk_16 12 (dk_at dksX0_goDrawn_0 13 rfl rfl)
theorem dX0_goDrawn_15 : decode cX0_goDrawn 15 = .ok (.if_icmp .ge 28, 3) := dk_162 0 28 (dk_at dksX0_goDrawn_0 15 rfl rfl)
theorem dX0_goDrawn_18 : decode cX0_goDrawn 18 = .ok (.aload_n 1, 1) := dk_43 (dk_at dksX0_goDrawn_0 18 rfl rfl)
theorem dX0_goDrawn_19 : decode cX0_goDrawn 19 = .ok (.iload_n 2, 1) := dk_28 (dk_at dksX0_goDrawn_0 19 rfl rfl)
theorem dX0_goDrawn_20 : decode cX0_goDrawn 20 = .ok (.iconst 4, 1) := dk_7 (dk_at dksX0_goDrawn_0 20 rfl rfl)
theorem dX0_goDrawn_21 : decode cX0_goDrawn 21 = .ok (.idiv, 1) := dk_108 (dk_at dksX0_goDrawn_0 21 rfl rfl)
theorem dX0_goDrawn_22 : decode cX0_goDrawn 22 = .ok (.iconst 4, 1) := dk_7 (dk_at dksX0_goDrawn_0 22 rfl rfl)
theorem dX0_goDrawn_23 : decode cX0_goDrawn 23 = .ok (.irem, 1) := dk_112 (dk_at dksX0_goDrawn_0 23 rfl rfl)
theorem dX0_goDrawn_24 : decode cX0_goDrawn 24 = .ok (.iload_n 2, 1) := dk_28 (dk_at dksX0_goDrawn_1 0 rfl rfl)
theorem dX0_goDrawn_25 : decode cX0_goDrawn 25 = .ok (.bipush 16, 2) := dk_16 16 (dk_at dksX0_goDrawn_1 1 rfl rfl)
theorem dX0_goDrawn_27 : decode cX0_goDrawn 27 = .ok (.idiv, 1) := dk_108 (dk_at dksX0_goDrawn_1 3 rfl rfl)
theorem dX0_goDrawn_28 : decode cX0_goDrawn 28 = .ok (.bipush 100, 2) := dk_16 100 (dk_at dksX0_goDrawn_1 4 rfl rfl)
theorem dX0_goDrawn_30 : decode cX0_goDrawn 30 = .ok (.irem, 1) := dk_112 (dk_at dksX0_goDrawn_1 6 rfl rfl)
theorem dX0_goDrawn_31 : decode cX0_goDrawn 31 = .ok (.iload_n 2, 1) := dk_28 (dk_at dksX0_goDrawn_1 7 rfl rfl)
theorem dX0_goDrawn_32 : decode cX0_goDrawn 32 = .ok (.bipush 32, 2) := dk_16 32 (dk_at dksX0_goDrawn_1 8 rfl rfl)
theorem dX0_goDrawn_34 : decode cX0_goDrawn 34 = .ok (.idiv, 1) := dk_108 (dk_at dksX0_goDrawn_1 10 rfl rfl)
theorem dX0_goDrawn_35 : decode cX0_goDrawn 35 = .ok (.bipush 100, 2) := dk_16 100 (dk_at dksX0_goDrawn_1 11 rfl rfl)
theorem dX0_goDrawn_37 : decode cX0_goDrawn 37 = .ok (.irem, 1) := dk_112 (dk_at dksX0_goDrawn_1 13 rfl rfl)
theorem dX0_goDrawn_38 : decode cX0_goDrawn 38 = .ok (.iconst 1, 1) := dk_4 (dk_at dksX0_goDrawn_1 14 rfl rfl)
theorem dX0_goDrawn_39 : decode cX0_goDrawn 39 = .ok (.invokevirtual 127, 3) := dk_182 0 127 (dk_at dksX0_goDrawn_1 15 rfl rfl)
theorem dX0_goDrawn_42 : decode cX0_goDrawn 42 = .ok (.ireturn, 1) := dk_172 (dk_at dksX0_goDrawn_1 18 rfl rfl)
theorem dX0_goDrawn_43 : decode cX0_goDrawn 43 = .ok (.iload_n 3, 1) := dk_29 (dk_at dksX0_goDrawn_1 19 rfl rfl)
theorem dX0_goDrawn_44 : decode cX0_goDrawn 44 = .ok (.iconst 2, 1) := dk_5 (dk_at dksX0_goDrawn_1 20 rfl rfl)
theorem dX0_goDrawn_45 : decode cX0_goDrawn 45 = .ok (.if_icmp .ge 7, 3) := dk_162 0 7 (dk_at dksX0_goDrawn_1 21 rfl rfl)
theorem dX0_goDrawn_48 : decode cX0_goDrawn 48 = .ok (.iconst 0, 1) := dk_3 (dk_at dksX0_goDrawn_2 0 rfl rfl)
theorem dX0_goDrawn_49 : decode cX0_goDrawn 49 = .ok (.goto 14, 3) := dk_167 0 14 (dk_at dksX0_goDrawn_2 1 rfl rfl)
theorem dX0_goDrawn_52 : decode cX0_goDrawn 52 = .ok (.aload_n 0, 1) := dk_42 (dk_at dksX0_goDrawn_2 4 rfl rfl)
theorem dX0_goDrawn_53 : decode cX0_goDrawn 53 = .ok (.aload_n 1, 1) := dk_43 (dk_at dksX0_goDrawn_2 5 rfl rfl)
theorem dX0_goDrawn_54 : decode cX0_goDrawn 54 = .ok (.iload_n 2, 1) := dk_28 (dk_at dksX0_goDrawn_2 6 rfl rfl)
theorem dX0_goDrawn_55 : decode cX0_goDrawn 55 = .ok (.iconst 4, 1) := dk_7 (dk_at dksX0_goDrawn_2 7 rfl rfl)
theorem dX0_goDrawn_56 : decode cX0_goDrawn 56 = .ok (.idiv, 1) := dk_108 (dk_at dksX0_goDrawn_2 8 rfl rfl)
theorem dX0_goDrawn_57 : decode cX0_goDrawn 57 = .ok (.bipush 12, 2) := dk_16 12 (dk_at dksX0_goDrawn_2 9 rfl rfl)
theorem dX0_goDrawn_59 : decode cX0_goDrawn 59 = .ok (.irem, 1) := dk_112 (dk_at dksX0_goDrawn_2 11 rfl rfl)
theorem dX0_goDrawn_60 : decode cX0_goDrawn 60 = .ok (.invokevirtual 300, 3) := dk_182 1 44 (dk_at dksX0_goDrawn_2 12 rfl rfl)
theorem dX0_goDrawn_63 : decode cX0_goDrawn 63 = .ok (.ireturn, 1) := dk_172 (dk_at dksX0_goDrawn_2 15 rfl rfl)
abbrev cX0_cutFrom : ByteArray := prog_1_method_40_code
def yX0_cutFrom : MethodName := ⟨RX0, "cutFrom", "(LDeadlineTree$State;I)I"⟩
def dkwX0_cutFrom_1 : List UInt8 := [29, 182, 0, 230, 172]
abbrev dktX0_cutFrom_1 : List UInt8 := dkwX0_cutFrom_1 ++ []
def dkwX0_cutFrom_0 : List UInt8 := [28, 62, 43, 180, 0, 140, 29, 184, 0, 155, 154, 0, 13, 29, 4, 96, 16, 12, 112, 62, 167, 255, 238, 43]
abbrev dktX0_cutFrom_0 : List UInt8 := dkwX0_cutFrom_0 ++ dktX0_cutFrom_1
theorem dksX0_cutFrom_0 : cX0_cutFrom.data.toList.drop 0 = dktX0_cutFrom_0 := by decide +kernel
theorem dksX0_cutFrom_1 : cX0_cutFrom.data.toList.drop 24 = dktX0_cutFrom_1 := dk_seg dksX0_cutFrom_0 24 rfl rfl
theorem dX0_cutFrom_0 : decode cX0_cutFrom 0 = .ok (.iload_n 2, 1) := dk_28 (dk_at dksX0_cutFrom_0 0 rfl rfl)
theorem dX0_cutFrom_1 : decode cX0_cutFrom 1 = .ok (.istore_n 3, 1) := dk_62 (dk_at dksX0_cutFrom_0 1 rfl rfl)
theorem dX0_cutFrom_2 : decode cX0_cutFrom 2 = .ok (.aload_n 1, 1) := dk_43 (dk_at dksX0_cutFrom_0 2 rfl rfl)
theorem dX0_cutFrom_3 : decode cX0_cutFrom 3 = .ok (.getfield 140, 3) := dk_180 0 140 (dk_at dksX0_cutFrom_0 3 rfl rfl)
theorem dX0_cutFrom_6 : decode cX0_cutFrom 6 = .ok (.iload_n 3, 1) := dk_29 (dk_at dksX0_cutFrom_0 6 rfl rfl)
theorem dX0_cutFrom_7 : decode cX0_cutFrom 7 = .ok (.invokestatic 155, 3) := dk_184 0 155 (dk_at dksX0_cutFrom_0 7 rfl rfl)
theorem dX0_cutFrom_10 : decode cX0_cutFrom 10 = .ok (.ifCond .ne 13, 3) := dk_154 0 13 (dk_at dksX0_cutFrom_0 10 rfl rfl)
theorem dX0_cutFrom_13 : decode cX0_cutFrom 13 = .ok (.iload_n 3, 1) := dk_29 (dk_at dksX0_cutFrom_0 13 rfl rfl)
theorem dX0_cutFrom_14 : decode cX0_cutFrom 14 = .ok (.iconst 1, 1) := dk_4 (dk_at dksX0_cutFrom_0 14 rfl rfl)
theorem dX0_cutFrom_15 : decode cX0_cutFrom 15 = .ok (.iadd, 1) := dk_96 (dk_at dksX0_cutFrom_0 15 rfl rfl)
theorem dX0_cutFrom_16 : decode cX0_cutFrom 16 = .ok (.bipush 12, 2) := dk_16 12 (dk_at dksX0_cutFrom_0 16 rfl rfl)
theorem dX0_cutFrom_18 : decode cX0_cutFrom 18 = .ok (.irem, 1) := dk_112 (dk_at dksX0_cutFrom_0 18 rfl rfl)
theorem dX0_cutFrom_19 : decode cX0_cutFrom 19 = .ok (.istore_n 3, 1) := dk_62 (dk_at dksX0_cutFrom_0 19 rfl rfl)
theorem dX0_cutFrom_20 : decode cX0_cutFrom 20 = .ok (.goto (-18), 3) := dk_167 255 238 (dk_at dksX0_cutFrom_0 20 rfl rfl)
theorem dX0_cutFrom_23 : decode cX0_cutFrom 23 = .ok (.aload_n 1, 1) := dk_43 (dk_at dksX0_cutFrom_0 23 rfl rfl)
theorem dX0_cutFrom_24 : decode cX0_cutFrom 24 = .ok (.iload_n 3, 1) := dk_29 (dk_at dksX0_cutFrom_1 0 rfl rfl)
theorem dX0_cutFrom_25 : decode cX0_cutFrom 25 = .ok (.invokevirtual 230, 3) := dk_182 0 230 (dk_at dksX0_cutFrom_1 1 rfl rfl)
theorem dX0_cutFrom_28 : decode cX0_cutFrom 28 = .ok (.ireturn, 1) := dk_172 (dk_at dksX0_cutFrom_1 4 rfl rfl)
abbrev cX0_keep : ByteArray := prog_1_method_42_code
def yX0_keep : MethodName := ⟨RX0, "keep", "()I"⟩
def dkwX0_keep_1 : List UInt8 := [182, 0, 143, 42, 89, 180, 0, 150, 4, 96, 181, 0, 150, 42, 180, 0, 150, 172]
abbrev dktX0_keep_1 : List UInt8 := dkwX0_keep_1 ++ []
def dkwX0_keep_0 : List UInt8 := [42, 180, 0, 150, 5, 160, 0, 6, 16, 253, 172, 42, 180, 0, 38, 42, 180, 0, 150, 50, 42, 180, 0, 32]
abbrev dktX0_keep_0 : List UInt8 := dkwX0_keep_0 ++ dktX0_keep_1
theorem dksX0_keep_0 : cX0_keep.data.toList.drop 0 = dktX0_keep_0 := by decide +kernel
theorem dksX0_keep_1 : cX0_keep.data.toList.drop 24 = dktX0_keep_1 := dk_seg dksX0_keep_0 24 rfl rfl
theorem dX0_keep_0 : decode cX0_keep 0 = .ok (.aload_n 0, 1) := dk_42 (dk_at dksX0_keep_0 0 rfl rfl)
theorem dX0_keep_1 : decode cX0_keep 1 = .ok (.getfield 150, 3) := dk_180 0 150 (dk_at dksX0_keep_0 1 rfl rfl)
theorem dX0_keep_4 : decode cX0_keep 4 = .ok (.iconst 2, 1) := dk_5 (dk_at dksX0_keep_0 4 rfl rfl)
theorem dX0_keep_5 : decode cX0_keep 5 = .ok (.if_icmp .ne 6, 3) := dk_160 0 6 (dk_at dksX0_keep_0 5 rfl rfl)
theorem dX0_keep_8 : decode cX0_keep 8 = .ok (.bipush (-3), 2) := dk_16 253 (dk_at dksX0_keep_0 8 rfl rfl)
theorem dX0_keep_10 : decode cX0_keep 10 = .ok (.ireturn, 1) := dk_172 (dk_at dksX0_keep_0 10 rfl rfl)
theorem dX0_keep_11 : decode cX0_keep 11 = .ok (.aload_n 0, 1) := dk_42 (dk_at dksX0_keep_0 11 rfl rfl)
theorem dX0_keep_12 : decode cX0_keep 12 = .ok (.getfield 38, 3) := dk_180 0 38 (dk_at dksX0_keep_0 12 rfl rfl)
theorem dX0_keep_15 : decode cX0_keep 15 = .ok (.aload_n 0, 1) := dk_42 (dk_at dksX0_keep_0 15 rfl rfl)
theorem dX0_keep_16 : decode cX0_keep 16 = .ok (.getfield 150, 3) := dk_180 0 150 (dk_at dksX0_keep_0 16 rfl rfl)
theorem dX0_keep_19 : decode cX0_keep 19 = .ok (.aaload, 1) := dk_50 (dk_at dksX0_keep_0 19 rfl rfl)
theorem dX0_keep_20 : decode cX0_keep 20 = .ok (.aload_n 0, 1) := dk_42 (dk_at dksX0_keep_0 20 rfl rfl)
theorem dX0_keep_21 : decode cX0_keep 21 = .ok (.getfield 32, 3) := dk_180 0 32 (dk_at dksX0_keep_0 21 rfl rfl)
theorem dX0_keep_24 : decode cX0_keep 24 = .ok (.invokevirtual 143, 3) := dk_182 0 143 (dk_at dksX0_keep_1 0 rfl rfl)
theorem dX0_keep_27 : decode cX0_keep 27 = .ok (.aload_n 0, 1) := dk_42 (dk_at dksX0_keep_1 3 rfl rfl)
theorem dX0_keep_28 : decode cX0_keep 28 = .ok (.dup, 1) := dk_89 (dk_at dksX0_keep_1 4 rfl rfl)
theorem dX0_keep_29 : decode cX0_keep 29 = .ok (.getfield 150, 3) := dk_180 0 150 (dk_at dksX0_keep_1 5 rfl rfl)
theorem dX0_keep_32 : decode cX0_keep 32 = .ok (.iconst 1, 1) := dk_4 (dk_at dksX0_keep_1 8 rfl rfl)
theorem dX0_keep_33 : decode cX0_keep 33 = .ok (.iadd, 1) := dk_96 (dk_at dksX0_keep_1 9 rfl rfl)
theorem dX0_keep_34 : decode cX0_keep 34 = .ok (.putfield 150, 3) := dk_181 0 150 (dk_at dksX0_keep_1 10 rfl rfl)
theorem dX0_keep_37 : decode cX0_keep 37 = .ok (.aload_n 0, 1) := dk_42 (dk_at dksX0_keep_1 13 rfl rfl)
theorem dX0_keep_38 : decode cX0_keep 38 = .ok (.getfield 150, 3) := dk_180 0 150 (dk_at dksX0_keep_1 14 rfl rfl)
theorem dX0_keep_41 : decode cX0_keep 41 = .ok (.ireturn, 1) := dk_172 (dk_at dksX0_keep_1 17 rfl rfl)
abbrev cX0_back : ByteArray := prog_1_method_43_code
def yX0_back : MethodName := ⟨RX0, "back", "()I"⟩
def dkwX0_back_1 : List UInt8 := [42, 180, 0, 38, 42, 180, 0, 150, 50, 182, 0, 143, 42, 3, 181, 0, 147, 42, 180, 0, 150, 172]
abbrev dktX0_back_1 : List UInt8 := dkwX0_back_1 ++ []
def dkwX0_back_0 : List UInt8 := [42, 180, 0, 150, 154, 0, 6, 16, 254, 172, 42, 89, 180, 0, 150, 4, 100, 181, 0, 150, 42, 180, 0, 32]
abbrev dktX0_back_0 : List UInt8 := dkwX0_back_0 ++ dktX0_back_1
theorem dksX0_back_0 : cX0_back.data.toList.drop 0 = dktX0_back_0 := by decide +kernel
theorem dksX0_back_1 : cX0_back.data.toList.drop 24 = dktX0_back_1 := dk_seg dksX0_back_0 24 rfl rfl
theorem dX0_back_0 : decode cX0_back 0 = .ok (.aload_n 0, 1) := dk_42 (dk_at dksX0_back_0 0 rfl rfl)
theorem dX0_back_1 : decode cX0_back 1 = .ok (.getfield 150, 3) := dk_180 0 150 (dk_at dksX0_back_0 1 rfl rfl)
theorem dX0_back_4 : decode cX0_back 4 = .ok (.ifCond .ne 6, 3) := dk_154 0 6 (dk_at dksX0_back_0 4 rfl rfl)
theorem dX0_back_7 : decode cX0_back 7 = .ok (.bipush (-2), 2) := dk_16 254 (dk_at dksX0_back_0 7 rfl rfl)
theorem dX0_back_9 : decode cX0_back 9 = .ok (.ireturn, 1) := dk_172 (dk_at dksX0_back_0 9 rfl rfl)
theorem dX0_back_10 : decode cX0_back 10 = .ok (.aload_n 0, 1) := dk_42 (dk_at dksX0_back_0 10 rfl rfl)
theorem dX0_back_11 : decode cX0_back 11 = .ok (.dup, 1) := dk_89 (dk_at dksX0_back_0 11 rfl rfl)
theorem dX0_back_12 : decode cX0_back 12 = .ok (.getfield 150, 3) := dk_180 0 150 (dk_at dksX0_back_0 12 rfl rfl)
theorem dX0_back_15 : decode cX0_back 15 = .ok (.iconst 1, 1) := dk_4 (dk_at dksX0_back_0 15 rfl rfl)
theorem dX0_back_16 : decode cX0_back 16 = .ok (.isub, 1) := dk_100 (dk_at dksX0_back_0 16 rfl rfl)
theorem dX0_back_17 : decode cX0_back 17 = .ok (.putfield 150, 3) := dk_181 0 150 (dk_at dksX0_back_0 17 rfl rfl)
theorem dX0_back_20 : decode cX0_back 20 = .ok (.aload_n 0, 1) := dk_42 (dk_at dksX0_back_0 20 rfl rfl)
theorem dX0_back_21 : decode cX0_back 21 = .ok (.getfield 32, 3) := dk_180 0 32 (dk_at dksX0_back_0 21 rfl rfl)
theorem dX0_back_24 : decode cX0_back 24 = .ok (.aload_n 0, 1) := dk_42 (dk_at dksX0_back_1 0 rfl rfl)
theorem dX0_back_25 : decode cX0_back 25 = .ok (.getfield 38, 3) := dk_180 0 38 (dk_at dksX0_back_1 1 rfl rfl)
theorem dX0_back_28 : decode cX0_back 28 = .ok (.aload_n 0, 1) := dk_42 (dk_at dksX0_back_1 4 rfl rfl)
theorem dX0_back_29 : decode cX0_back 29 = .ok (.getfield 150, 3) := dk_180 0 150 (dk_at dksX0_back_1 5 rfl rfl)
theorem dX0_back_32 : decode cX0_back 32 = .ok (.aaload, 1) := dk_50 (dk_at dksX0_back_1 8 rfl rfl)
theorem dX0_back_33 : decode cX0_back 33 = .ok (.invokevirtual 143, 3) := dk_182 0 143 (dk_at dksX0_back_1 9 rfl rfl)
theorem dX0_back_36 : decode cX0_back 36 = .ok (.aload_n 0, 1) := dk_42 (dk_at dksX0_back_1 12 rfl rfl)
theorem dX0_back_37 : decode cX0_back 37 = .ok (.iconst 0, 1) := dk_3 (dk_at dksX0_back_1 13 rfl rfl)
theorem dX0_back_38 : decode cX0_back 38 = .ok (.putfield 147, 3) := dk_181 0 147 (dk_at dksX0_back_1 14 rfl rfl)
theorem dX0_back_41 : decode cX0_back 41 = .ok (.aload_n 0, 1) := dk_42 (dk_at dksX0_back_1 17 rfl rfl)
theorem dX0_back_42 : decode cX0_back 42 = .ok (.getfield 150, 3) := dk_180 0 150 (dk_at dksX0_back_1 18 rfl rfl)
theorem dX0_back_45 : decode cX0_back 45 = .ok (.ireturn, 1) := dk_172 (dk_at dksX0_back_1 21 rfl rfl)
abbrev cX0_count : ByteArray := prog_1_method_45_code
def yX0_count : MethodName := ⟨RX0, "count", "(I)I"⟩
def dkwX0_count_4 : List UInt8 := [180, 0, 180, 182, 1, 61, 172, 42, 180, 0, 147, 172, 42, 180, 0, 150, 172, 42, 180, 0, 87, 172, 2, 172]
abbrev dktX0_count_4 : List UInt8 := dkwX0_count_4 ++ []
def dkwX0_count_3 : List UInt8 := [104, 4, 100, 172, 42, 180, 0, 32, 42, 180, 0, 32, 180, 0, 180, 182, 1, 65, 172, 42, 42, 180, 0, 32]
abbrev dktX0_count_3 : List UInt8 := dkwX0_count_3 ++ dktX0_count_4
def dkwX0_count_2 : List UInt8 := [42, 180, 0, 32, 182, 0, 124, 172, 42, 180, 0, 32, 180, 0, 140, 172, 5, 42, 180, 0, 32, 182, 0, 124]
abbrev dktX0_count_2 : List UInt8 := dkwX0_count_2 ++ dktX0_count_3
def dkwX0_count_1 : List UInt8 := [170, 0, 0, 0, 0, 0, 117, 0, 0, 0, 0, 0, 0, 0, 7, 0, 0, 0, 47, 0, 0, 0, 55, 0, 0, 0, 63, 0, 0, 0, 75, 0, 0, 0, 90, 0, 0, 0, 102, 0, 0, 0, 107, 0, 0, 0, 112]
abbrev dktX0_count_1 : List UInt8 := dkwX0_count_1 ++ dktX0_count_2
def dkwX0_count_0 : List UInt8 := [27]
abbrev dktX0_count_0 : List UInt8 := dkwX0_count_0 ++ dktX0_count_1
theorem dksX0_count_0 : cX0_count.data.toList.drop 0 = dktX0_count_0 := by decide +kernel
theorem dksX0_count_1 : cX0_count.data.toList.drop 1 = dktX0_count_1 := dk_seg dksX0_count_0 1 rfl rfl
theorem dksX0_count_2 : cX0_count.data.toList.drop 48 = dktX0_count_2 := dk_seg dksX0_count_1 47 rfl rfl
theorem dksX0_count_3 : cX0_count.data.toList.drop 72 = dktX0_count_3 := dk_seg dksX0_count_2 24 rfl rfl
theorem dksX0_count_4 : cX0_count.data.toList.drop 96 = dktX0_count_4 := dk_seg dksX0_count_3 24 rfl rfl
theorem dX0_count_0 : decode cX0_count 0 = .ok (.iload_n 1, 1) := dk_27 (dk_at dksX0_count_0 0 rfl rfl)
theorem dX0_count_1 : decode cX0_count 1 = .ok (.tableswitch 117 0 7 #[47, 55, 63, 75, 90, 102, 107, 112], 47) := by decide +kernel
theorem dX0_count_48 : decode cX0_count 48 = .ok (.aload_n 0, 1) := dk_42 (dk_at dksX0_count_2 0 rfl rfl)
theorem dX0_count_49 : decode cX0_count 49 = .ok (.getfield 32, 3) := dk_180 0 32 (dk_at dksX0_count_2 1 rfl rfl)
theorem dX0_count_52 : decode cX0_count 52 = .ok (.invokevirtual 124, 3) := dk_182 0 124 (dk_at dksX0_count_2 4 rfl rfl)
theorem dX0_count_55 : decode cX0_count 55 = .ok (.ireturn, 1) := dk_172 (dk_at dksX0_count_2 7 rfl rfl)
theorem dX0_count_56 : decode cX0_count 56 = .ok (.aload_n 0, 1) := dk_42 (dk_at dksX0_count_2 8 rfl rfl)
theorem dX0_count_57 : decode cX0_count 57 = .ok (.getfield 32, 3) := dk_180 0 32 (dk_at dksX0_count_2 9 rfl rfl)
theorem dX0_count_60 : decode cX0_count 60 = .ok (.getfield 140, 3) := dk_180 0 140 (dk_at dksX0_count_2 12 rfl rfl)
theorem dX0_count_63 : decode cX0_count 63 = .ok (.ireturn, 1) := dk_172 (dk_at dksX0_count_2 15 rfl rfl)
theorem dX0_count_64 : decode cX0_count 64 = .ok (.iconst 2, 1) := dk_5 (dk_at dksX0_count_2 16 rfl rfl)
theorem dX0_count_65 : decode cX0_count 65 = .ok (.aload_n 0, 1) := dk_42 (dk_at dksX0_count_2 17 rfl rfl)
theorem dX0_count_66 : decode cX0_count 66 = .ok (.getfield 32, 3) := dk_180 0 32 (dk_at dksX0_count_2 18 rfl rfl)
theorem dX0_count_69 : decode cX0_count 69 = .ok (.invokevirtual 124, 3) := dk_182 0 124 (dk_at dksX0_count_2 21 rfl rfl)
theorem dX0_count_72 : decode cX0_count 72 = .ok (.imul, 1) := dk_104 (dk_at dksX0_count_3 0 rfl rfl)
theorem dX0_count_73 : decode cX0_count 73 = .ok (.iconst 1, 1) := dk_4 (dk_at dksX0_count_3 1 rfl rfl)
theorem dX0_count_74 : decode cX0_count 74 = .ok (.isub, 1) := dk_100 (dk_at dksX0_count_3 2 rfl rfl)
theorem dX0_count_75 : decode cX0_count 75 = .ok (.ireturn, 1) := dk_172 (dk_at dksX0_count_3 3 rfl rfl)
theorem dX0_count_76 : decode cX0_count 76 = .ok (.aload_n 0, 1) := dk_42 (dk_at dksX0_count_3 4 rfl rfl)
theorem dX0_count_77 : decode cX0_count 77 = .ok (.getfield 32, 3) := dk_180 0 32 (dk_at dksX0_count_3 5 rfl rfl)
theorem dX0_count_80 : decode cX0_count 80 = .ok (.aload_n 0, 1) := dk_42 (dk_at dksX0_count_3 8 rfl rfl)
theorem dX0_count_81 : decode cX0_count 81 = .ok (.getfield 32, 3) := dk_180 0 32 (dk_at dksX0_count_3 9 rfl rfl)
theorem dX0_count_84 : decode cX0_count 84 = .ok (.getfield 180, 3) := dk_180 0 180 (dk_at dksX0_count_3 12 rfl rfl)
theorem dX0_count_87 : decode cX0_count 87 = .ok (.invokevirtual 321, 3) := dk_182 1 65 (dk_at dksX0_count_3 15 rfl rfl)
theorem dX0_count_90 : decode cX0_count 90 = .ok (.ireturn, 1) := dk_172 (dk_at dksX0_count_3 18 rfl rfl)
theorem dX0_count_91 : decode cX0_count 91 = .ok (.aload_n 0, 1) := dk_42 (dk_at dksX0_count_3 19 rfl rfl)
theorem dX0_count_92 : decode cX0_count 92 = .ok (.aload_n 0, 1) := dk_42 (dk_at dksX0_count_3 20 rfl rfl)
theorem dX0_count_93 : decode cX0_count 93 = .ok (.getfield 32, 3) := dk_180 0 32 (dk_at dksX0_count_3 21 rfl rfl)
theorem dX0_count_96 : decode cX0_count 96 = .ok (.getfield 180, 3) := dk_180 0 180 (dk_at dksX0_count_4 0 rfl rfl)
theorem dX0_count_99 : decode cX0_count 99 = .ok (.invokevirtual 317, 3) := dk_182 1 61 (dk_at dksX0_count_4 3 rfl rfl)
theorem dX0_count_102 : decode cX0_count 102 = .ok (.ireturn, 1) := dk_172 (dk_at dksX0_count_4 6 rfl rfl)
theorem dX0_count_103 : decode cX0_count 103 = .ok (.aload_n 0, 1) := dk_42 (dk_at dksX0_count_4 7 rfl rfl)
theorem dX0_count_104 : decode cX0_count 104 = .ok (.getfield 147, 3) := dk_180 0 147 (dk_at dksX0_count_4 8 rfl rfl)
theorem dX0_count_107 : decode cX0_count 107 = .ok (.ireturn, 1) := dk_172 (dk_at dksX0_count_4 11 rfl rfl)
theorem dX0_count_108 : decode cX0_count 108 = .ok (.aload_n 0, 1) := dk_42 (dk_at dksX0_count_4 12 rfl rfl)
theorem dX0_count_109 : decode cX0_count 109 = .ok (.getfield 150, 3) := dk_180 0 150 (dk_at dksX0_count_4 13 rfl rfl)
theorem dX0_count_112 : decode cX0_count 112 = .ok (.ireturn, 1) := dk_172 (dk_at dksX0_count_4 16 rfl rfl)
theorem dX0_count_113 : decode cX0_count 113 = .ok (.aload_n 0, 1) := dk_42 (dk_at dksX0_count_4 17 rfl rfl)
theorem dX0_count_114 : decode cX0_count 114 = .ok (.getfield 87, 3) := dk_180 0 87 (dk_at dksX0_count_4 18 rfl rfl)
theorem dX0_count_117 : decode cX0_count 117 = .ok (.ireturn, 1) := dk_172 (dk_at dksX0_count_4 21 rfl rfl)
theorem dX0_count_118 : decode cX0_count 118 = .ok (.iconst (-1), 1) := dk_2 (dk_at dksX0_count_4 22 rfl rfl)
theorem dX0_count_119 : decode cX0_count 119 = .ok (.ireturn, 1) := dk_172 (dk_at dksX0_count_4 23 rfl rfl)
abbrev cX0_vacant : ByteArray := prog_1_method_44_code
def yX0_vacant : MethodName := ⟨RX0, "vacant", "(LDeadlineTree$Node;)I"⟩
def dkwX0_vacant_1 : List UInt8 := [167, 0, 22, 28, 42, 43, 180, 0, 203, 182, 1, 61, 96, 42, 43, 180, 0, 200, 182, 1, 61, 96, 172]
abbrev dktX0_vacant_1 : List UInt8 := dkwX0_vacant_1 ++ []
def dkwX0_vacant_0 : List UInt8 := [43, 180, 0, 1, 16, 252, 160, 0, 7, 4, 167, 0, 4, 3, 61, 43, 182, 0, 184, 153, 0, 7, 28]
abbrev dktX0_vacant_0 : List UInt8 := dkwX0_vacant_0 ++ dktX0_vacant_1
theorem dksX0_vacant_0 : cX0_vacant.data.toList.drop 0 = dktX0_vacant_0 := by decide +kernel
theorem dksX0_vacant_1 : cX0_vacant.data.toList.drop 23 = dktX0_vacant_1 := dk_seg dksX0_vacant_0 23 rfl rfl
theorem dX0_vacant_0 : decode cX0_vacant 0 = .ok (.aload_n 1, 1) := dk_43 (dk_at dksX0_vacant_0 0 rfl rfl)
theorem dX0_vacant_1 : decode cX0_vacant 1 = .ok (.getfield 1, 3) := dk_180 0 1 (dk_at dksX0_vacant_0 1 rfl rfl)
theorem dX0_vacant_4 : decode cX0_vacant 4 = .ok (.bipush (-4), 2) := dk_16 252 (dk_at dksX0_vacant_0 4 rfl rfl)
theorem dX0_vacant_6 : decode cX0_vacant 6 = .ok (.if_icmp .ne 7, 3) := dk_160 0 7 (dk_at dksX0_vacant_0 6 rfl rfl)
theorem dX0_vacant_9 : decode cX0_vacant 9 = .ok (.iconst 1, 1) := dk_4 (dk_at dksX0_vacant_0 9 rfl rfl)
theorem dX0_vacant_10 : decode cX0_vacant 10 = .ok (.goto 4, 3) := dk_167 0 4 (dk_at dksX0_vacant_0 10 rfl rfl)
theorem dX0_vacant_13 : decode cX0_vacant 13 = .ok (.iconst 0, 1) := dk_3 (dk_at dksX0_vacant_0 13 rfl rfl)
theorem dX0_vacant_14 : decode cX0_vacant 14 = .ok (.istore_n 2, 1) := dk_61 (dk_at dksX0_vacant_0 14 rfl rfl)
theorem dX0_vacant_15 : decode cX0_vacant 15 = .ok (.aload_n 1, 1) := dk_43 (dk_at dksX0_vacant_0 15 rfl rfl)
theorem dX0_vacant_16 : decode cX0_vacant 16 = .ok (.invokevirtual 184, 3) := dk_182 0 184 (dk_at dksX0_vacant_0 16 rfl rfl)
theorem dX0_vacant_19 : decode cX0_vacant 19 = .ok (.ifCond .eq 7, 3) := dk_153 0 7 (dk_at dksX0_vacant_0 19 rfl rfl)
theorem dX0_vacant_22 : decode cX0_vacant 22 = .ok (.iload_n 2, 1) := dk_28 (dk_at dksX0_vacant_0 22 rfl rfl)
theorem dX0_vacant_23 : decode cX0_vacant 23 = .ok (.goto 22, 3) := dk_167 0 22 (dk_at dksX0_vacant_1 0 rfl rfl)
theorem dX0_vacant_26 : decode cX0_vacant 26 = .ok (.iload_n 2, 1) := dk_28 (dk_at dksX0_vacant_1 3 rfl rfl)
theorem dX0_vacant_27 : decode cX0_vacant 27 = .ok (.aload_n 0, 1) := dk_42 (dk_at dksX0_vacant_1 4 rfl rfl)
theorem dX0_vacant_28 : decode cX0_vacant 28 = .ok (.aload_n 1, 1) := dk_43 (dk_at dksX0_vacant_1 5 rfl rfl)
theorem dX0_vacant_29 : decode cX0_vacant 29 = .ok (.getfield 203, 3) := dk_180 0 203 (dk_at dksX0_vacant_1 6 rfl rfl)
theorem dX0_vacant_32 : decode cX0_vacant 32 = .ok (.invokevirtual 317, 3) := dk_182 1 61 (dk_at dksX0_vacant_1 9 rfl rfl)
theorem dX0_vacant_35 : decode cX0_vacant 35 = .ok (.iadd, 1) := dk_96 (dk_at dksX0_vacant_1 12 rfl rfl)
theorem dX0_vacant_36 : decode cX0_vacant 36 = .ok (.aload_n 0, 1) := dk_42 (dk_at dksX0_vacant_1 13 rfl rfl)
theorem dX0_vacant_37 : decode cX0_vacant 37 = .ok (.aload_n 1, 1) := dk_43 (dk_at dksX0_vacant_1 14 rfl rfl)
theorem dX0_vacant_38 : decode cX0_vacant 38 = .ok (.getfield 200, 3) := dk_180 0 200 (dk_at dksX0_vacant_1 15 rfl rfl)
theorem dX0_vacant_41 : decode cX0_vacant 41 = .ok (.invokevirtual 317, 3) := dk_182 1 61 (dk_at dksX0_vacant_1 18 rfl rfl)
theorem dX0_vacant_44 : decode cX0_vacant 44 = .ok (.iadd, 1) := dk_96 (dk_at dksX0_vacant_1 21 rfl rfl)
theorem dX0_vacant_45 : decode cX0_vacant 45 = .ok (.ireturn, 1) := dk_172 (dk_at dksX0_vacant_1 22 rfl rfl)
theorem q70 : (Jvm.Cond.initialized "DeadlineTree") ∈ lw_all := lw_g (lw_at lw_m1 1 rfl) rfl
theorem q91 : (Jvm.Cond.instantiable "DeadlineTree" (15 : Nat)) ∈ lw_all := lw_g (lw_at lw_m1 22 rfl) rfl
theorem q93 : (Jvm.Cond.instanceMethod ({ cls := "DeadlineTree", name := "<init>", desc := "()V" } : Jvm.MethodName)) ∈ lw_all := lw_g (lw_at lw_m1 24 rfl) rfl
theorem q94 : (Jvm.Cond.code ({ cls := "DeadlineTree", name := "<init>", desc := "()V" } : Jvm.MethodName) prog_1_method_4_code (3 : Nat) (Option.none : Option Jvm.ClassFile.FieldType)) ∈ lw_all := lw_g (lw_at lw_m1 25 rfl) rfl
theorem q95 : (Jvm.Cond.methodLink "DeadlineTree" (11 : Nat) ({ cls := "java/lang/Object", name := "<init>", desc := "()V" } : Jvm.MethodName)) ∈ lw_all := lw_g (lw_at lw_m1 26 rfl) rfl
theorem q98 : (Jvm.Cond.classLink "DeadlineTree" (17 : Nat) "DeadlineTree$Ranked") ∈ lw_all := lw_g (lw_at lw_m1 29 rfl) rfl
theorem q100 : (Jvm.Cond.classLink "DeadlineTree" (23 : Nat) "DeadlineTree$State") ∈ lw_all := lw_g (lw_at lw_m1 31 rfl) rfl
theorem q102 : (Jvm.Cond.methodLink "DeadlineTree" (25 : Nat) ({ cls := "DeadlineTree$State", name := "<init>", desc := "(LDeadlineTree;)V" } : Jvm.MethodName)) ∈ lw_all := lw_g (lw_at lw_m1 33 rfl) rfl
theorem q117 : (Jvm.Cond.fieldLinkNest "DeadlineTree" (203 : Nat) "DeadlineTree$Node" "left" "LDeadlineTree$Node;" "DeadlineTree") ∈ lw_tbl := lw_at lw_m1 48 rfl
theorem q120 : (Jvm.Cond.fieldLinkNest "DeadlineTree" (200 : Nat) "DeadlineTree$Node" "right" "LDeadlineTree$Node;" "DeadlineTree") ∈ lw_tbl := lw_at lw_m1 51 rfl
theorem q123 : (Jvm.Cond.fieldLinkNest "DeadlineTree" (206 : Nat) "DeadlineTree$Node" "start" "I" "DeadlineTree") ∈ lw_tbl := lw_at lw_m1 54 rfl
theorem q126 : (Jvm.Cond.fieldLinkNest "DeadlineTree" (209 : Nat) "DeadlineTree$Node" "number" "I" "DeadlineTree") ∈ lw_tbl := lw_at lw_m1 57 rfl
theorem q127 : (Jvm.Cond.fieldLinkNest "DeadlineTree" (1 : Nat) "DeadlineTree$Node" "hold" "I" "DeadlineTree") ∈ lw_tbl := lw_at lw_m1 58 rfl
theorem q131 : (Jvm.Cond.fieldLinkNest "DeadlineTree" (211 : Nat) "DeadlineTree$Node" "leaves" "I" "DeadlineTree") ∈ lw_tbl := lw_at lw_m1 62 rfl
theorem q149 : (Jvm.Cond.fieldLinkNest "DeadlineTree" (140 : Nat) "DeadlineTree$State" "there" "I" "DeadlineTree") ∈ lw_tbl := lw_at lw_m1 80 rfl
theorem q152 : (Jvm.Cond.fieldLinkNest "DeadlineTree" (180 : Nat) "DeadlineTree$State" "root" "LDeadlineTree$Node;" "DeadlineTree") ∈ lw_tbl := lw_at lw_m1 83 rfl
theorem q155 : (Jvm.Cond.fieldLinkNest "DeadlineTree" (165 : Nat) "DeadlineTree$State" "of" "[B" "DeadlineTree") ∈ lw_tbl := lw_at lw_m1 86 rfl
theorem q157 : (Jvm.Cond.fieldLinkNest "DeadlineTree" (168 : Nat) "DeadlineTree$State" "starts" "[B" "DeadlineTree") ∈ lw_tbl := lw_at lw_m1 88 rfl
theorem q159 : (Jvm.Cond.fieldLinkNest "DeadlineTree" (171 : Nat) "DeadlineTree$State" "deadlines" "[B" "DeadlineTree") ∈ lw_tbl := lw_at lw_m1 90 rfl
theorem q161 : (Jvm.Cond.fieldLinkNest "DeadlineTree" (174 : Nat) "DeadlineTree$State" "lengths" "[B" "DeadlineTree") ∈ lw_tbl := lw_at lw_m1 92 rfl
theorem q195 : (Jvm.Cond.classLink "DeadlineTree" (56 : Nat) "DeadlineTree$Plain") ∈ lw_all := lw_g (lw_at lw_m1 126 rfl) rfl
theorem q197 : (Jvm.Cond.methodLinkNest "DeadlineTree" (58 : Nat) ({ cls := "DeadlineTree$Plain", name := "<init>", desc := "()V" } : Jvm.MethodName) "DeadlineTree") ∈ lw_tbl := lw_at lw_m1 128 rfl
theorem q203 : (Jvm.Cond.classLink "DeadlineTree" (59 : Nat) "DeadlineTree$Urgent") ∈ lw_all := lw_g (lw_at lw_m1 134 rfl) rfl
theorem q205 : (Jvm.Cond.methodLinkNest "DeadlineTree" (61 : Nat) ({ cls := "DeadlineTree$Urgent", name := "<init>", desc := "()V" } : Jvm.MethodName) "DeadlineTree") ∈ lw_tbl := lw_at lw_m1 136 rfl
theorem q210 : (Jvm.Cond.classLink "DeadlineTree" (62 : Nat) "DeadlineTree$Lax") ∈ lw_all := lw_g (lw_at lw_m1 141 rfl) rfl
theorem q212 : (Jvm.Cond.methodLinkNest "DeadlineTree" (64 : Nat) ({ cls := "DeadlineTree$Lax", name := "<init>", desc := "()V" } : Jvm.MethodName) "DeadlineTree") ∈ lw_tbl := lw_at lw_m1 143 rfl
theorem q217 : (Jvm.Cond.classLink "DeadlineTree" (65 : Nat) "DeadlineTree$Dire") ∈ lw_all := lw_g (lw_at lw_m1 148 rfl) rfl
theorem q219 : (Jvm.Cond.methodLinkNest "DeadlineTree" (67 : Nat) ({ cls := "DeadlineTree$Dire", name := "<init>", desc := "()V" } : Jvm.MethodName) "DeadlineTree") ∈ lw_tbl := lw_at lw_m1 150 rfl
theorem q224 : (Jvm.Cond.stringRef "DeadlineTree" (68 : Nat) "j0,20,60,3;j1,5,70,4;j2,40,50,2;j0,12,33,5;j3,30,90,6;j0,20,45,1;j1,55,80,2;j0,70,75,3;j2,2,28,4;") ∈ lw_tbl := lw_at lw_m1 155 rfl
theorem q225 : (Jvm.Cond.methodLink "DeadlineTree" (70 : Nat) ({ cls := "java/lang/String", name := "length", desc := "()I" } : Jvm.MethodName)) ∈ lw_all := lw_g (lw_at lw_m1 156 rfl) rfl
theorem q235 : (Jvm.Cond.methodLink "DeadlineTree" (76 : Nat) ({ cls := "java/lang/String", name := "charAt", desc := "(I)C" } : Jvm.MethodName)) ∈ lw_all := lw_g (lw_at lw_m1 166 rfl) rfl
theorem q273 : (Jvm.Cond.methodLink "DeadlineTree" (80 : Nat) ({ cls := "DeadlineTree", name := "write", desc := "(I)I" } : Jvm.MethodName)) ∈ lw_all := lw_g (lw_at lw_m1 204 rfl) rfl
theorem q274 : (Jvm.Cond.instanceMethod ({ cls := "DeadlineTree", name := "write", desc := "(I)I" } : Jvm.MethodName)) ∈ lw_all := lw_g (lw_at lw_m1 205 rfl) rfl
theorem q275 : (Jvm.Cond.selects "DeadlineTree" ({ cls := "DeadlineTree", name := "write", desc := "(I)I" } : Jvm.MethodName) ({ cls := "DeadlineTree", name := "write", desc := "(I)I" } : Jvm.MethodName)) ∈ lw_all := lw_g (lw_at lw_m1 206 rfl) rfl
theorem q276 : (Jvm.Cond.code ({ cls := "DeadlineTree", name := "write", desc := "(I)I" } : Jvm.MethodName) prog_1_method_5_code (2 : Nat) (Option.some Jvm.ClassFile.FieldType.int)) ∈ lw_all := lw_g (lw_at lw_m1 207 rfl) rfl
theorem q277 : (Jvm.Cond.constantLong "DeadlineTree" (89 : Nat) (32 : Int64)) ∈ lw_all := lw_g (lw_at lw_m1 208 rfl) rfl
theorem q278 : (Jvm.Cond.constantLong "DeadlineTree" (91 : Nat) (126 : Int64)) ∈ lw_all := lw_g (lw_at lw_m1 209 rfl) rfl
theorem q279 : (Jvm.Cond.methodLink "DeadlineTree" (93 : Nat) ({ cls := "DeadlineTree", name := "isIn", desc := "(JJJ)Z" } : Jvm.MethodName)) ∈ lw_all := lw_g (lw_at lw_m1 210 rfl) rfl
theorem q280 : (Jvm.Cond.static ({ cls := "DeadlineTree", name := "isIn", desc := "(JJJ)Z" } : Jvm.MethodName)) ∈ lw_all := lw_g (lw_at lw_m1 211 rfl) rfl
theorem q281 : (Jvm.Cond.code ({ cls := "DeadlineTree", name := "isIn", desc := "(JJJ)Z" } : Jvm.MethodName) prog_1_method_1_code (6 : Nat) (Option.some Jvm.ClassFile.FieldType.boolean)) ∈ lw_all := lw_g (lw_at lw_m1 212 rfl) rfl
theorem q282 : (Jvm.Cond.methodLink "DeadlineTree" (84 : Nat) ({ cls := "DeadlineTree", name := "lay", desc := "()I" } : Jvm.MethodName)) ∈ lw_all := lw_g (lw_at lw_m1 213 rfl) rfl
theorem q283 : (Jvm.Cond.instanceMethod ({ cls := "DeadlineTree", name := "lay", desc := "()I" } : Jvm.MethodName)) ∈ lw_all := lw_g (lw_at lw_m1 214 rfl) rfl
theorem q284 : (Jvm.Cond.selects "DeadlineTree" ({ cls := "DeadlineTree", name := "lay", desc := "()I" } : Jvm.MethodName) ({ cls := "DeadlineTree", name := "lay", desc := "()I" } : Jvm.MethodName)) ∈ lw_all := lw_g (lw_at lw_m1 215 rfl) rfl
theorem q285 : (Jvm.Cond.code ({ cls := "DeadlineTree", name := "lay", desc := "()I" } : Jvm.MethodName) prog_1_method_14_code (1 : Nat) (Option.some Jvm.ClassFile.FieldType.int)) ∈ lw_all := lw_g (lw_at lw_m1 216 rfl) rfl
theorem q286 : (Jvm.Cond.methodLink "DeadlineTree" (137 : Nat) ({ cls := "DeadlineTree", name := "readAll", desc := "()I" } : Jvm.MethodName)) ∈ lw_all := lw_g (lw_at lw_m1 217 rfl) rfl
theorem q287 : (Jvm.Cond.privateMethod ({ cls := "DeadlineTree", name := "readAll", desc := "()I" } : Jvm.MethodName)) ∈ lw_tbl := lw_at lw_m1 218 rfl
theorem q288 : (Jvm.Cond.instanceMethod ({ cls := "DeadlineTree", name := "readAll", desc := "()I" } : Jvm.MethodName)) ∈ lw_all := lw_g (lw_at lw_m1 219 rfl) rfl
theorem q289 : (Jvm.Cond.codeWith ({ cls := "DeadlineTree", name := "readAll", desc := "()I" } : Jvm.MethodName) prog_1_method_12_code (5 : Nat) (Option.some Jvm.ClassFile.FieldType.int) [((14 : Nat), (40 : Nat), (47 : Nat), (107 : Nat)), ((14 : Nat), (40 : Nat), (57 : Nat), (0 : Nat)), ((47 : Nat), (50 : Nat), (57 : Nat), (0 : Nat)), ((57 : Nat), (59 : Nat), (57 : Nat), (0 : Nat))]) ∈ lw_all := lw_g (lw_at lw_m1 220 rfl) rfl
theorem q290 : (Jvm.Cond.classLink "DeadlineTree" (107 : Nat) "DeadlineTree$Fault") ∈ lw_all := lw_g (lw_at lw_m1 221 rfl) rfl
theorem q291 : (Jvm.Cond.methodLink "DeadlineTree" (131 : Nat) ({ cls := "DeadlineTree$State", name := "clear", desc := "()V" } : Jvm.MethodName)) ∈ lw_all := lw_g (lw_at lw_m1 222 rfl) rfl
theorem q295 : (Jvm.Cond.methodLink "DeadlineTree" (134 : Nat) ({ cls := "DeadlineTree", name := "item", desc := "()V" } : Jvm.MethodName)) ∈ lw_all := lw_g (lw_at lw_m1 226 rfl) rfl
theorem q296 : (Jvm.Cond.privateMethod ({ cls := "DeadlineTree", name := "item", desc := "()V" } : Jvm.MethodName)) ∈ lw_tbl := lw_at lw_m1 227 rfl
theorem q297 : (Jvm.Cond.instanceMethod ({ cls := "DeadlineTree", name := "item", desc := "()V" } : Jvm.MethodName)) ∈ lw_all := lw_g (lw_at lw_m1 228 rfl) rfl
theorem q298 : (Jvm.Cond.code ({ cls := "DeadlineTree", name := "item", desc := "()V" } : Jvm.MethodName) prog_1_method_11_code (5 : Nat) (Option.none : Option Jvm.ClassFile.FieldType)) ∈ lw_all := lw_g (lw_at lw_m1 229 rfl) rfl
theorem q299 : (Jvm.Cond.methodLink "DeadlineTree" (100 : Nat) ({ cls := "DeadlineTree", name := "letterAt", desc := "(I)I" } : Jvm.MethodName)) ∈ lw_all := lw_g (lw_at lw_m1 230 rfl) rfl
theorem q300 : (Jvm.Cond.privateMethod ({ cls := "DeadlineTree", name := "letterAt", desc := "(I)I" } : Jvm.MethodName)) ∈ lw_tbl := lw_at lw_m1 231 rfl
theorem q301 : (Jvm.Cond.instanceMethod ({ cls := "DeadlineTree", name := "letterAt", desc := "(I)I" } : Jvm.MethodName)) ∈ lw_all := lw_g (lw_at lw_m1 232 rfl) rfl
theorem q302 : (Jvm.Cond.code ({ cls := "DeadlineTree", name := "letterAt", desc := "(I)I" } : Jvm.MethodName) prog_1_method_7_code (2 : Nat) (Option.some Jvm.ClassFile.FieldType.int)) ∈ lw_all := lw_g (lw_at lw_m1 233 rfl) rfl
theorem q303 : (Jvm.Cond.methodLink "DeadlineTree" (116 : Nat) ({ cls := "DeadlineTree", name := "expect", desc := "(Z)V" } : Jvm.MethodName)) ∈ lw_all := lw_g (lw_at lw_m1 234 rfl) rfl
theorem q304 : (Jvm.Cond.privateMethod ({ cls := "DeadlineTree", name := "expect", desc := "(Z)V" } : Jvm.MethodName)) ∈ lw_tbl := lw_at lw_m1 235 rfl
theorem q305 : (Jvm.Cond.instanceMethod ({ cls := "DeadlineTree", name := "expect", desc := "(Z)V" } : Jvm.MethodName)) ∈ lw_all := lw_g (lw_at lw_m1 236 rfl) rfl
theorem q306 : (Jvm.Cond.code ({ cls := "DeadlineTree", name := "expect", desc := "(Z)V" } : Jvm.MethodName) prog_1_method_9_code (2 : Nat) (Option.none : Option Jvm.ClassFile.FieldType)) ∈ lw_all := lw_g (lw_at lw_m1 237 rfl) rfl
theorem q359 : (Jvm.Cond.methodLink "DeadlineTree" (109 : Nat) ({ cls := "DeadlineTree$Fault", name := "<init>", desc := "()V" } : Jvm.MethodName)) ∈ lw_all := lw_g (lw_at lw_m2 50 rfl) rfl
theorem q385 : (Jvm.Cond.methodLink "DeadlineTree" (120 : Nat) ({ cls := "DeadlineTree", name := "number", desc := "(III)I" } : Jvm.MethodName)) ∈ lw_all := lw_g (lw_at lw_m2 76 rfl) rfl
theorem q386 : (Jvm.Cond.privateMethod ({ cls := "DeadlineTree", name := "number", desc := "(III)I" } : Jvm.MethodName)) ∈ lw_tbl := lw_at lw_m2 77 rfl
theorem q387 : (Jvm.Cond.instanceMethod ({ cls := "DeadlineTree", name := "number", desc := "(III)I" } : Jvm.MethodName)) ∈ lw_all := lw_g (lw_at lw_m2 78 rfl) rfl
theorem q388 : (Jvm.Cond.code ({ cls := "DeadlineTree", name := "number", desc := "(III)I" } : Jvm.MethodName) prog_1_method_10_code (6 : Nat) (Option.some Jvm.ClassFile.FieldType.int)) ∈ lw_all := lw_g (lw_at lw_m2 79 rfl) rfl
theorem q389 : (Jvm.Cond.methodLink "DeadlineTree" (110 : Nat) ({ cls := "DeadlineTree", name := "isFigure", desc := "()Z" } : Jvm.MethodName)) ∈ lw_all := lw_g (lw_at lw_m2 80 rfl) rfl
theorem q390 : (Jvm.Cond.privateMethod ({ cls := "DeadlineTree", name := "isFigure", desc := "()Z" } : Jvm.MethodName)) ∈ lw_tbl := lw_at lw_m2 81 rfl
theorem q391 : (Jvm.Cond.instanceMethod ({ cls := "DeadlineTree", name := "isFigure", desc := "()Z" } : Jvm.MethodName)) ∈ lw_all := lw_g (lw_at lw_m2 82 rfl) rfl
theorem q392 : (Jvm.Cond.code ({ cls := "DeadlineTree", name := "isFigure", desc := "()Z" } : Jvm.MethodName) prog_1_method_8_code (1 : Nat) (Option.some Jvm.ClassFile.FieldType.boolean)) ∈ lw_all := lw_g (lw_at lw_m2 83 rfl) rfl
theorem q393 : (Jvm.Cond.constantLong "DeadlineTree" (103 : Nat) (48 : Int64)) ∈ lw_all := lw_g (lw_at lw_m2 84 rfl) rfl
theorem q394 : (Jvm.Cond.constantLong "DeadlineTree" (105 : Nat) (57 : Int64)) ∈ lw_all := lw_g (lw_at lw_m2 85 rfl) rfl
theorem q395 : (Jvm.Cond.constantLong "DeadlineTree" (114 : Nat) (2 : Int64)) ∈ lw_all := lw_g (lw_at lw_m2 86 rfl) rfl
theorem q396 : (Jvm.Cond.methodLink "DeadlineTree" (124 : Nat) ({ cls := "DeadlineTree$State", name := "many", desc := "()I" } : Jvm.MethodName)) ∈ lw_all := lw_g (lw_at lw_m2 87 rfl) rfl
theorem q406 : (Jvm.Cond.methodLink "DeadlineTree" (127 : Nat) ({ cls := "DeadlineTree$State", name := "add", desc := "(IIII)I" } : Jvm.MethodName)) ∈ lw_all := lw_g (lw_at lw_m2 97 rfl) rfl
theorem q528 : (Jvm.Cond.methodLink "DeadlineTree" (143 : Nat) ({ cls := "DeadlineTree$State", name := "copy", desc := "(LDeadlineTree$State;)V" } : Jvm.MethodName)) ∈ lw_all := lw_g (lw_at lw_m2 219 rfl) rfl
theorem q539 : (Jvm.Cond.fieldLink "DeadlineTree" (19 : Nat) "DeadlineTree" "kinds" "[LDeadlineTree$Ranked;") ∈ lw_all := lw_g (lw_at lw_m2 230 rfl) rfl
theorem q541 : (Jvm.Cond.fieldLink "DeadlineTree" (28 : Nat) "DeadlineTree" "read" "LDeadlineTree$State;") ∈ lw_all := lw_g (lw_at lw_m2 232 rfl) rfl
theorem q542 : (Jvm.Cond.fieldLink "DeadlineTree" (32 : Nat) "DeadlineTree" "now" "LDeadlineTree$State;") ∈ lw_all := lw_g (lw_at lw_m2 233 rfl) rfl
theorem q543 : (Jvm.Cond.fieldLink "DeadlineTree" (35 : Nat) "DeadlineTree" "run" "LDeadlineTree$State;") ∈ lw_all := lw_g (lw_at lw_m2 234 rfl) rfl
theorem q544 : (Jvm.Cond.fieldLink "DeadlineTree" (38 : Nat) "DeadlineTree" "kept" "[LDeadlineTree$State;") ∈ lw_all := lw_g (lw_at lw_m2 235 rfl) rfl
theorem q545 : (Jvm.Cond.fieldLink "DeadlineTree" (150 : Nat) "DeadlineTree" "keptMany" "I") ∈ lw_all := lw_g (lw_at lw_m2 236 rfl) rfl
theorem q546 : (Jvm.Cond.fieldLink "DeadlineTree" (42 : Nat) "DeadlineTree" "undos" "[LDeadlineTree$State;") ∈ lw_all := lw_g (lw_at lw_m2 237 rfl) rfl
theorem q547 : (Jvm.Cond.fieldLink "DeadlineTree" (147 : Nat) "DeadlineTree" "undoMany" "I") ∈ lw_all := lw_g (lw_at lw_m2 238 rfl) rfl
theorem q548 : (Jvm.Cond.fieldLink "DeadlineTree" (87 : Nat) "DeadlineTree" "length" "I") ∈ lw_all := lw_g (lw_at lw_m2 239 rfl) rfl
theorem q549 : (Jvm.Cond.fieldLink "DeadlineTree" (45 : Nat) "DeadlineTree" "text" "[B") ∈ lw_all := lw_g (lw_at lw_m3 0 rfl) rfl
theorem q550 : (Jvm.Cond.fieldLink "DeadlineTree" (97 : Nat) "DeadlineTree" "at" "I") ∈ lw_all := lw_g (lw_at lw_m3 1 rfl) rfl
theorem q551 : (Jvm.Cond.fieldLink "DeadlineTree" (240 : Nat) "DeadlineTree" "looks" "I") ∈ lw_all := lw_g (lw_at lw_m3 2 rfl) rfl
theorem q552 : (Jvm.Cond.fieldLink "DeadlineTree" (243 : Nat) "DeadlineTree" "foundMany" "I") ∈ lw_all := lw_g (lw_at lw_m3 3 rfl) rfl
theorem q553 : (Jvm.Cond.fieldLink "DeadlineTree" (49 : Nat) "DeadlineTree" "found" "[I") ∈ lw_all := lw_g (lw_at lw_m3 4 rfl) rfl
theorem q554 : (Jvm.Cond.fieldLink "DeadlineTree" (53 : Nat) "DeadlineTree" "ends" "[I") ∈ lw_all := lw_g (lw_at lw_m3 5 rfl) rfl
theorem q555 : (Jvm.Cond.laysFinal "DeadlineTree" "DeadlineTree" "kinds" "[LDeadlineTree$Ranked;") ∈ lw_all := lw_g (lw_at lw_m3 6 rfl) rfl
theorem q556 : (Jvm.Cond.soleField "DeadlineTree" "kinds") ∈ lw_all := lw_g (lw_at lw_m3 7 rfl) rfl
theorem q557 : (Jvm.Cond.laysFinal "DeadlineTree" "DeadlineTree" "read" "LDeadlineTree$State;") ∈ lw_all := lw_g (lw_at lw_m3 8 rfl) rfl
theorem q558 : (Jvm.Cond.soleField "DeadlineTree" "read") ∈ lw_all := lw_g (lw_at lw_m3 9 rfl) rfl
theorem q559 : (Jvm.Cond.laysFinal "DeadlineTree" "DeadlineTree" "now" "LDeadlineTree$State;") ∈ lw_all := lw_g (lw_at lw_m3 10 rfl) rfl
theorem q560 : (Jvm.Cond.soleField "DeadlineTree" "now") ∈ lw_all := lw_g (lw_at lw_m3 11 rfl) rfl
theorem q561 : (Jvm.Cond.laysFinal "DeadlineTree" "DeadlineTree" "run" "LDeadlineTree$State;") ∈ lw_all := lw_g (lw_at lw_m3 12 rfl) rfl
theorem q562 : (Jvm.Cond.soleField "DeadlineTree" "run") ∈ lw_all := lw_g (lw_at lw_m3 13 rfl) rfl
theorem q563 : (Jvm.Cond.laysFinal "DeadlineTree" "DeadlineTree" "kept" "[LDeadlineTree$State;") ∈ lw_all := lw_g (lw_at lw_m3 14 rfl) rfl
theorem q564 : (Jvm.Cond.soleField "DeadlineTree" "kept") ∈ lw_all := lw_g (lw_at lw_m3 15 rfl) rfl
theorem q565 : (Jvm.Cond.lays "DeadlineTree" "DeadlineTree" "keptMany" "I") ∈ lw_all := lw_g (lw_at lw_m3 16 rfl) rfl
theorem q566 : (Jvm.Cond.soleField "DeadlineTree" "keptMany") ∈ lw_all := lw_g (lw_at lw_m3 17 rfl) rfl
theorem q567 : (Jvm.Cond.laysFinal "DeadlineTree" "DeadlineTree" "undos" "[LDeadlineTree$State;") ∈ lw_all := lw_g (lw_at lw_m3 18 rfl) rfl
theorem q568 : (Jvm.Cond.soleField "DeadlineTree" "undos") ∈ lw_all := lw_g (lw_at lw_m3 19 rfl) rfl
theorem q569 : (Jvm.Cond.lays "DeadlineTree" "DeadlineTree" "undoMany" "I") ∈ lw_all := lw_g (lw_at lw_m3 20 rfl) rfl
theorem q570 : (Jvm.Cond.soleField "DeadlineTree" "undoMany") ∈ lw_all := lw_g (lw_at lw_m3 21 rfl) rfl
theorem q571 : (Jvm.Cond.lays "DeadlineTree" "DeadlineTree" "length" "I") ∈ lw_all := lw_g (lw_at lw_m3 22 rfl) rfl
theorem q572 : (Jvm.Cond.soleField "DeadlineTree" "length") ∈ lw_all := lw_g (lw_at lw_m3 23 rfl) rfl
theorem q573 : (Jvm.Cond.laysFinal "DeadlineTree" "DeadlineTree" "text" "[B") ∈ lw_all := lw_g (lw_at lw_m3 24 rfl) rfl
theorem q574 : (Jvm.Cond.soleField "DeadlineTree" "text") ∈ lw_all := lw_g (lw_at lw_m3 25 rfl) rfl
theorem q575 : (Jvm.Cond.lays "DeadlineTree" "DeadlineTree" "at" "I") ∈ lw_all := lw_g (lw_at lw_m3 26 rfl) rfl
theorem q576 : (Jvm.Cond.soleField "DeadlineTree" "at") ∈ lw_all := lw_g (lw_at lw_m3 27 rfl) rfl
theorem q577 : (Jvm.Cond.lays "DeadlineTree" "DeadlineTree" "looks" "I") ∈ lw_all := lw_g (lw_at lw_m3 28 rfl) rfl
theorem q578 : (Jvm.Cond.soleField "DeadlineTree" "looks") ∈ lw_all := lw_g (lw_at lw_m3 29 rfl) rfl
theorem q579 : (Jvm.Cond.lays "DeadlineTree" "DeadlineTree" "foundMany" "I") ∈ lw_all := lw_g (lw_at lw_m3 30 rfl) rfl
theorem q580 : (Jvm.Cond.soleField "DeadlineTree" "foundMany") ∈ lw_all := lw_g (lw_at lw_m3 31 rfl) rfl
theorem q581 : (Jvm.Cond.laysFinal "DeadlineTree" "DeadlineTree" "found" "[I") ∈ lw_all := lw_g (lw_at lw_m3 32 rfl) rfl
theorem q582 : (Jvm.Cond.soleField "DeadlineTree" "found") ∈ lw_all := lw_g (lw_at lw_m3 33 rfl) rfl
theorem q583 : (Jvm.Cond.laysFinal "DeadlineTree" "DeadlineTree" "ends" "[I") ∈ lw_all := lw_g (lw_at lw_m3 34 rfl) rfl
theorem q584 : (Jvm.Cond.soleField "DeadlineTree" "ends") ∈ lw_all := lw_g (lw_at lw_m3 35 rfl) rfl
theorem q585 : (Jvm.Cond.superclass "DeadlineTree" "java/lang/Object") ∈ lw_all := lw_g (lw_at lw_m3 36 rfl) rfl
theorem q588 : (Jvm.Cond.instanceMethod ({ cls := "DeadlineTree", name := "wipe", desc := "()I" } : Jvm.MethodName)) ∈ lw_all := lw_g (lw_at lw_m3 39 rfl) rfl
theorem q589 : (Jvm.Cond.selects "DeadlineTree" ({ cls := "DeadlineTree", name := "wipe", desc := "()I" } : Jvm.MethodName) ({ cls := "DeadlineTree", name := "wipe", desc := "()I" } : Jvm.MethodName)) ∈ lw_all := lw_g (lw_at lw_m3 40 rfl) rfl
theorem q590 : (Jvm.Cond.code ({ cls := "DeadlineTree", name := "wipe", desc := "()I" } : Jvm.MethodName) prog_1_method_6_code (2 : Nat) (Option.some Jvm.ClassFile.FieldType.int)) ∈ lw_all := lw_g (lw_at lw_m3 41 rfl) rfl
theorem q592 : (Jvm.Cond.instanceMethod ({ cls := "DeadlineTree", name := "fault", desc := "()I" } : Jvm.MethodName)) ∈ lw_all := lw_g (lw_at lw_m3 43 rfl) rfl
theorem q593 : (Jvm.Cond.selects "DeadlineTree" ({ cls := "DeadlineTree", name := "fault", desc := "()I" } : Jvm.MethodName) ({ cls := "DeadlineTree", name := "fault", desc := "()I" } : Jvm.MethodName)) ∈ lw_all := lw_g (lw_at lw_m3 44 rfl) rfl
theorem q594 : (Jvm.Cond.code ({ cls := "DeadlineTree", name := "fault", desc := "()I" } : Jvm.MethodName) prog_1_method_13_code (1 : Nat) (Option.some Jvm.ClassFile.FieldType.int)) ∈ lw_all := lw_g (lw_at lw_m3 45 rfl) rfl
theorem q597 : (Jvm.Cond.instanceMethod ({ cls := "DeadlineTree", name := "job", desc := "(II)I" } : Jvm.MethodName)) ∈ lw_all := lw_g (lw_at lw_m3 48 rfl) rfl
theorem q598 : (Jvm.Cond.selects "DeadlineTree" ({ cls := "DeadlineTree", name := "job", desc := "(II)I" } : Jvm.MethodName) ({ cls := "DeadlineTree", name := "job", desc := "(II)I" } : Jvm.MethodName)) ∈ lw_all := lw_g (lw_at lw_m3 49 rfl) rfl
theorem q599 : (Jvm.Cond.code ({ cls := "DeadlineTree", name := "job", desc := "(II)I" } : Jvm.MethodName) prog_1_method_16_code (5 : Nat) (Option.some Jvm.ClassFile.FieldType.int)) ∈ lw_all := lw_g (lw_at lw_m3 50 rfl) rfl
theorem q600 : (Jvm.Cond.methodLink "DeadlineTree" (159 : Nat) ({ cls := "DeadlineTree", name := "isJob", desc := "(I)Z" } : Jvm.MethodName)) ∈ lw_all := lw_g (lw_at lw_m3 51 rfl) rfl
theorem q601 : (Jvm.Cond.privateMethod ({ cls := "DeadlineTree", name := "isJob", desc := "(I)Z" } : Jvm.MethodName)) ∈ lw_tbl := lw_at lw_m3 52 rfl
theorem q602 : (Jvm.Cond.instanceMethod ({ cls := "DeadlineTree", name := "isJob", desc := "(I)Z" } : Jvm.MethodName)) ∈ lw_all := lw_g (lw_at lw_m3 53 rfl) rfl
theorem q603 : (Jvm.Cond.code ({ cls := "DeadlineTree", name := "isJob", desc := "(I)Z" } : Jvm.MethodName) prog_1_method_15_code (2 : Nat) (Option.some Jvm.ClassFile.FieldType.boolean)) ∈ lw_all := lw_g (lw_at lw_m3 54 rfl) rfl
theorem q604 : (Jvm.Cond.constantLong "DeadlineTree" (153 : Nat) (11 : Int64)) ∈ lw_all := lw_g (lw_at lw_m3 55 rfl) rfl
theorem q605 : (Jvm.Cond.methodLink "DeadlineTree" (155 : Nat) ({ cls := "DeadlineTree", name := "has", desc := "(II)Z" } : Jvm.MethodName)) ∈ lw_all := lw_g (lw_at lw_m3 56 rfl) rfl
theorem q606 : (Jvm.Cond.static ({ cls := "DeadlineTree", name := "has", desc := "(II)Z" } : Jvm.MethodName)) ∈ lw_all := lw_g (lw_at lw_m3 57 rfl) rfl
theorem q607 : (Jvm.Cond.code ({ cls := "DeadlineTree", name := "has", desc := "(II)Z" } : Jvm.MethodName) prog_1_method_2_code (2 : Nat) (Option.some Jvm.ClassFile.FieldType.boolean)) ∈ lw_all := lw_g (lw_at lw_m3 58 rfl) rfl
theorem q608 : (Jvm.Cond.constantLong "DeadlineTree" (163 : Nat) (6 : Int64)) ∈ lw_all := lw_g (lw_at lw_m3 59 rfl) rfl
theorem q609 : (Jvm.Cond.methodLink "DeadlineTree" (177 : Nat) ({ cls := "DeadlineTree$State", name := "rank", desc := "(I)I" } : Jvm.MethodName)) ∈ lw_all := lw_g (lw_at lw_m3 60 rfl) rfl
theorem q610 : (Jvm.Cond.methodLink "DeadlineTree" (184 : Nat) ({ cls := "DeadlineTree$Node", name := "isLeaf", desc := "()Z" } : Jvm.MethodName)) ∈ lw_all := lw_g (lw_at lw_m3 61 rfl) rfl
theorem q611 : (Jvm.Cond.methodLink "DeadlineTree" (187 : Nat) ({ cls := "DeadlineTree$Node", name := "part", desc := "(II)LDeadlineTree$Node;" } : Jvm.MethodName)) ∈ lw_all := lw_g (lw_at lw_m3 62 rfl) rfl
theorem q613 : (Jvm.Cond.instanceMethod ({ cls := "DeadlineTree", name := "node", desc := "(II)I" } : Jvm.MethodName)) ∈ lw_all := lw_g (lw_at lw_m3 64 rfl) rfl
theorem q614 : (Jvm.Cond.selects "DeadlineTree" ({ cls := "DeadlineTree", name := "node", desc := "(II)I" } : Jvm.MethodName) ({ cls := "DeadlineTree", name := "node", desc := "(II)I" } : Jvm.MethodName)) ∈ lw_all := lw_g (lw_at lw_m3 65 rfl) rfl
theorem q615 : (Jvm.Cond.codeWith ({ cls := "DeadlineTree", name := "node", desc := "(II)I" } : Jvm.MethodName) prog_1_method_17_code (5 : Nat) (Option.some Jvm.ClassFile.FieldType.int) [((34 : Nat), (114 : Nat), (115 : Nat), (7 : Nat))]) ∈ lw_all := lw_g (lw_at lw_m3 66 rfl) rfl
theorem q616 : (Jvm.Cond.classLink "DeadlineTree" (7 : Nat) "java/lang/NullPointerException") ∈ lw_all := lw_g (lw_at lw_m3 67 rfl) rfl
theorem q641 : (Jvm.Cond.constantLong "DeadlineTree" (191 : Nat) (4095 : Int64)) ∈ lw_all := lw_g (lw_at lw_m3 92 rfl) rfl
theorem q642 : (Jvm.Cond.constantLong "DeadlineTree" (193 : Nat) (3 : Int64)) ∈ lw_all := lw_g (lw_at lw_m3 93 rfl) rfl
theorem q643 : (Jvm.Cond.methodLink "DeadlineTree" (195 : Nat) ({ cls := "java/lang/Integer", name := "numberOfLeadingZeros", desc := "(I)I" } : Jvm.MethodName)) ∈ lw_all := lw_g (lw_at lw_m3 94 rfl) rfl
theorem q647 : (Jvm.Cond.instanceMethod ({ cls := "DeadlineTree", name := "add", desc := "(IIII)I" } : Jvm.MethodName)) ∈ lw_all := lw_g (lw_at lw_m3 98 rfl) rfl
theorem q648 : (Jvm.Cond.selects "DeadlineTree" ({ cls := "DeadlineTree", name := "add", desc := "(IIII)I" } : Jvm.MethodName) ({ cls := "DeadlineTree", name := "add", desc := "(IIII)I" } : Jvm.MethodName)) ∈ lw_all := lw_g (lw_at lw_m3 99 rfl) rfl
theorem q649 : (Jvm.Cond.code ({ cls := "DeadlineTree", name := "add", desc := "(IIII)I" } : Jvm.MethodName) prog_1_method_19_code (6 : Nat) (Option.some Jvm.ClassFile.FieldType.int)) ∈ lw_all := lw_g (lw_at lw_m3 100 rfl) rfl
theorem q650 : (Jvm.Cond.constantLong "DeadlineTree" (220 : Nat) (99 : Int64)) ∈ lw_all := lw_g (lw_at lw_m3 101 rfl) rfl
theorem q651 : (Jvm.Cond.constantLong "DeadlineTree" (222 : Nat) (9 : Int64)) ∈ lw_all := lw_g (lw_at lw_m3 102 rfl) rfl
theorem q652 : (Jvm.Cond.methodLink "DeadlineTree" (224 : Nat) ({ cls := "DeadlineTree", name := "noteUndo", desc := "()V" } : Jvm.MethodName)) ∈ lw_all := lw_g (lw_at lw_m3 103 rfl) rfl
theorem q653 : (Jvm.Cond.privateMethod ({ cls := "DeadlineTree", name := "noteUndo", desc := "()V" } : Jvm.MethodName)) ∈ lw_tbl := lw_at lw_m3 104 rfl
theorem q654 : (Jvm.Cond.instanceMethod ({ cls := "DeadlineTree", name := "noteUndo", desc := "()V" } : Jvm.MethodName)) ∈ lw_all := lw_g (lw_at lw_m3 105 rfl) rfl
theorem q655 : (Jvm.Cond.code ({ cls := "DeadlineTree", name := "noteUndo", desc := "()V" } : Jvm.MethodName) prog_1_method_18_code (2 : Nat) (Option.none : Option Jvm.ClassFile.FieldType)) ∈ lw_all := lw_g (lw_at lw_m3 106 rfl) rfl
theorem q656 : (Jvm.Cond.methodLink "DeadlineTree" (214 : Nat) ({ cls := "java/lang/System", name := "arraycopy", desc := "(Ljava/lang/Object;ILjava/lang/Object;II)V" } : Jvm.MethodName)) ∈ lw_all := lw_g (lw_at lw_m3 107 rfl) rfl
theorem q657 : (Jvm.Cond.methodLink "DeadlineTree" (227 : Nat) ({ cls := "DeadlineTree$State", name := "free", desc := "()I" } : Jvm.MethodName)) ∈ lw_all := lw_g (lw_at lw_m3 108 rfl) rfl
theorem q659 : (Jvm.Cond.instanceMethod ({ cls := "DeadlineTree", name := "cut", desc := "(I)I" } : Jvm.MethodName)) ∈ lw_all := lw_g (lw_at lw_m3 110 rfl) rfl
theorem q660 : (Jvm.Cond.selects "DeadlineTree" ({ cls := "DeadlineTree", name := "cut", desc := "(I)I" } : Jvm.MethodName) ({ cls := "DeadlineTree", name := "cut", desc := "(I)I" } : Jvm.MethodName)) ∈ lw_all := lw_g (lw_at lw_m3 111 rfl) rfl
theorem q661 : (Jvm.Cond.code ({ cls := "DeadlineTree", name := "cut", desc := "(I)I" } : Jvm.MethodName) prog_1_method_20_code (2 : Nat) (Option.some Jvm.ClassFile.FieldType.int)) ∈ lw_all := lw_g (lw_at lw_m3 112 rfl) rfl
theorem q662 : (Jvm.Cond.methodLink "DeadlineTree" (230 : Nat) ({ cls := "DeadlineTree$State", name := "cut", desc := "(I)I" } : Jvm.MethodName)) ∈ lw_all := lw_g (lw_at lw_m3 113 rfl) rfl
theorem q679 : (Jvm.Cond.static ({ cls := "DeadlineTree", name := "holdOf", desc := "(LDeadlineTree$Node;)I" } : Jvm.MethodName)) ∈ lw_all := lw_g (lw_at lw_m3 130 rfl) rfl
theorem q680 : (Jvm.Cond.codeWith ({ cls := "DeadlineTree", name := "holdOf", desc := "(LDeadlineTree$Node;)I" } : Jvm.MethodName) prog_1_method_3_code (2 : Nat) (Option.some Jvm.ClassFile.FieldType.int) [((0 : Nat), (4 : Nat), (5 : Nat), (7 : Nat))]) ∈ lw_all := lw_g (lw_at lw_m3 131 rfl) rfl
theorem q686 : (Jvm.Cond.instanceMethod ({ cls := "DeadlineTree", name := "delay", desc := "(II)I" } : Jvm.MethodName)) ∈ lw_all := lw_g (lw_at lw_m3 137 rfl) rfl
theorem q687 : (Jvm.Cond.selects "DeadlineTree" ({ cls := "DeadlineTree", name := "delay", desc := "(II)I" } : Jvm.MethodName) ({ cls := "DeadlineTree", name := "delay", desc := "(II)I" } : Jvm.MethodName)) ∈ lw_all := lw_g (lw_at lw_m3 138 rfl) rfl
theorem q688 : (Jvm.Cond.code ({ cls := "DeadlineTree", name := "delay", desc := "(II)I" } : Jvm.MethodName) prog_1_method_21_code (4 : Nat) (Option.some Jvm.ClassFile.FieldType.int)) ∈ lw_all := lw_g (lw_at lw_m3 139 rfl) rfl
theorem q689 : (Jvm.Cond.methodLink "DeadlineTree" (233 : Nat) ({ cls := "DeadlineTree$State", name := "delay", desc := "(II)V" } : Jvm.MethodName)) ∈ lw_all := lw_g (lw_at lw_m3 140 rfl) rfl
theorem q694 : (Jvm.Cond.instanceMethod ({ cls := "DeadlineTree", name := "level", desc := "()I" } : Jvm.MethodName)) ∈ lw_all := lw_g (lw_at lw_m3 145 rfl) rfl
theorem q695 : (Jvm.Cond.selects "DeadlineTree" ({ cls := "DeadlineTree", name := "level", desc := "()I" } : Jvm.MethodName) ({ cls := "DeadlineTree", name := "level", desc := "()I" } : Jvm.MethodName)) ∈ lw_all := lw_g (lw_at lw_m3 146 rfl) rfl
theorem q696 : (Jvm.Cond.code ({ cls := "DeadlineTree", name := "level", desc := "()I" } : Jvm.MethodName) prog_1_method_22_code (1 : Nat) (Option.some Jvm.ClassFile.FieldType.int)) ∈ lw_all := lw_g (lw_at lw_m3 147 rfl) rfl
theorem q697 : (Jvm.Cond.methodLink "DeadlineTree" (237 : Nat) ({ cls := "DeadlineTree$State", name := "levelAll", desc := "()I" } : Jvm.MethodName)) ∈ lw_all := lw_g (lw_at lw_m3 148 rfl) rfl
theorem q707 : (Jvm.Cond.instanceMethod ({ cls := "DeadlineTree", name := "undo", desc := "()I" } : Jvm.MethodName)) ∈ lw_all := lw_g (lw_at lw_m3 158 rfl) rfl
theorem q708 : (Jvm.Cond.selects "DeadlineTree" ({ cls := "DeadlineTree", name := "undo", desc := "()I" } : Jvm.MethodName) ({ cls := "DeadlineTree", name := "undo", desc := "()I" } : Jvm.MethodName)) ∈ lw_all := lw_g (lw_at lw_m3 159 rfl) rfl
theorem q709 : (Jvm.Cond.code ({ cls := "DeadlineTree", name := "undo", desc := "()I" } : Jvm.MethodName) prog_1_method_23_code (1 : Nat) (Option.some Jvm.ClassFile.FieldType.int)) ∈ lw_all := lw_g (lw_at lw_m3 160 rfl) rfl
theorem q711 : (Jvm.Cond.instanceMethod ({ cls := "DeadlineTree", name := "found", desc := "(IIII)I" } : Jvm.MethodName)) ∈ lw_all := lw_g (lw_at lw_m3 162 rfl) rfl
theorem q712 : (Jvm.Cond.selects "DeadlineTree" ({ cls := "DeadlineTree", name := "found", desc := "(IIII)I" } : Jvm.MethodName) ({ cls := "DeadlineTree", name := "found", desc := "(IIII)I" } : Jvm.MethodName)) ∈ lw_all := lw_g (lw_at lw_m3 163 rfl) rfl
theorem q713 : (Jvm.Cond.code ({ cls := "DeadlineTree", name := "found", desc := "(IIII)I" } : Jvm.MethodName) prog_1_method_27_code (5 : Nat) (Option.some Jvm.ClassFile.FieldType.int)) ∈ lw_all := lw_g (lw_at lw_m3 164 rfl) rfl
theorem q714 : (Jvm.Cond.methodLink "DeadlineTree" (250 : Nat) ({ cls := "DeadlineTree", name := "areStarts", desc := "(II)Z" } : Jvm.MethodName)) ∈ lw_all := lw_g (lw_at lw_m3 165 rfl) rfl
theorem q715 : (Jvm.Cond.static ({ cls := "DeadlineTree", name := "areStarts", desc := "(II)Z" } : Jvm.MethodName)) ∈ lw_all := lw_g (lw_at lw_m3 166 rfl) rfl
theorem q716 : (Jvm.Cond.code ({ cls := "DeadlineTree", name := "areStarts", desc := "(II)Z" } : Jvm.MethodName) prog_1_method_25_code (2 : Nat) (Option.some Jvm.ClassFile.FieldType.boolean)) ∈ lw_all := lw_g (lw_at lw_m3 167 rfl) rfl
theorem q717 : (Jvm.Cond.constantLong "DeadlineTree" (253 : Nat) (200 : Int64)) ∈ lw_all := lw_g (lw_at lw_m3 168 rfl) rfl
theorem q718 : (Jvm.Cond.methodLink "DeadlineTree" (255 : Nat) ({ cls := "DeadlineTree", name := "find", desc := "(III)V" } : Jvm.MethodName)) ∈ lw_all := lw_g (lw_at lw_m3 169 rfl) rfl
theorem q719 : (Jvm.Cond.privateMethod ({ cls := "DeadlineTree", name := "find", desc := "(III)V" } : Jvm.MethodName)) ∈ lw_tbl := lw_at lw_m3 170 rfl
theorem q720 : (Jvm.Cond.instanceMethod ({ cls := "DeadlineTree", name := "find", desc := "(III)V" } : Jvm.MethodName)) ∈ lw_all := lw_g (lw_at lw_m3 171 rfl) rfl
theorem q721 : (Jvm.Cond.code ({ cls := "DeadlineTree", name := "find", desc := "(III)V" } : Jvm.MethodName) prog_1_method_26_code (4 : Nat) (Option.none : Option Jvm.ClassFile.FieldType)) ∈ lw_all := lw_g (lw_at lw_m3 172 rfl) rfl
theorem q722 : (Jvm.Cond.methodLink "DeadlineTree" (246 : Nat) ({ cls := "DeadlineTree", name := "look", desc := "(LDeadlineTree$Node;III)V" } : Jvm.MethodName)) ∈ lw_all := lw_g (lw_at lw_m3 173 rfl) rfl
theorem q723 : (Jvm.Cond.privateMethod ({ cls := "DeadlineTree", name := "look", desc := "(LDeadlineTree$Node;III)V" } : Jvm.MethodName)) ∈ lw_tbl := lw_at lw_m3 174 rfl
theorem q724 : (Jvm.Cond.instanceMethod ({ cls := "DeadlineTree", name := "look", desc := "(LDeadlineTree$Node;III)V" } : Jvm.MethodName)) ∈ lw_all := lw_g (lw_at lw_m3 175 rfl) rfl
theorem q725 : (Jvm.Cond.code ({ cls := "DeadlineTree", name := "look", desc := "(LDeadlineTree$Node;III)V" } : Jvm.MethodName) prog_1_method_24_code (6 : Nat) (Option.none : Option Jvm.ClassFile.FieldType)) ∈ lw_all := lw_g (lw_at lw_m3 176 rfl) rfl
theorem q727 : (Jvm.Cond.instanceMethod ({ cls := "DeadlineTree", name := "first", desc := "(III)I" } : Jvm.MethodName)) ∈ lw_all := lw_g (lw_at lw_m3 178 rfl) rfl
theorem q728 : (Jvm.Cond.selects "DeadlineTree" ({ cls := "DeadlineTree", name := "first", desc := "(III)I" } : Jvm.MethodName) ({ cls := "DeadlineTree", name := "first", desc := "(III)I" } : Jvm.MethodName)) ∈ lw_all := lw_g (lw_at lw_m3 179 rfl) rfl
theorem q729 : (Jvm.Cond.code ({ cls := "DeadlineTree", name := "first", desc := "(III)I" } : Jvm.MethodName) prog_1_method_28_code (7 : Nat) (Option.some Jvm.ClassFile.FieldType.int)) ∈ lw_all := lw_g (lw_at lw_m3 180 rfl) rfl
theorem q730 : (Jvm.Cond.methodLink "DeadlineTree" (259 : Nat) ({ cls := "DeadlineTree$State", name := "isDueAhead", desc := "(II)Z" } : Jvm.MethodName)) ∈ lw_all := lw_g (lw_at lw_m3 181 rfl) rfl
theorem q732 : (Jvm.Cond.instanceMethod ({ cls := "DeadlineTree", name := "soonest", desc := "(II)I" } : Jvm.MethodName)) ∈ lw_all := lw_g (lw_at lw_m3 183 rfl) rfl
theorem q733 : (Jvm.Cond.selects "DeadlineTree" ({ cls := "DeadlineTree", name := "soonest", desc := "(II)I" } : Jvm.MethodName) ({ cls := "DeadlineTree", name := "soonest", desc := "(II)I" } : Jvm.MethodName)) ∈ lw_all := lw_g (lw_at lw_m3 184 rfl) rfl
theorem q734 : (Jvm.Cond.code ({ cls := "DeadlineTree", name := "soonest", desc := "(II)I" } : Jvm.MethodName) prog_1_method_31_code (3 : Nat) (Option.some Jvm.ClassFile.FieldType.int)) ∈ lw_all := lw_g (lw_at lw_m3 185 rfl) rfl
theorem q735 : (Jvm.Cond.methodLink "DeadlineTree" (262 : Nat) ({ cls := "DeadlineTree", name := "soonestOf", desc := "(LDeadlineTree$Node;II)I" } : Jvm.MethodName)) ∈ lw_all := lw_g (lw_at lw_m3 186 rfl) rfl
theorem q736 : (Jvm.Cond.privateMethod ({ cls := "DeadlineTree", name := "soonestOf", desc := "(LDeadlineTree$Node;II)I" } : Jvm.MethodName)) ∈ lw_tbl := lw_at lw_m3 187 rfl
theorem q737 : (Jvm.Cond.instanceMethod ({ cls := "DeadlineTree", name := "soonestOf", desc := "(LDeadlineTree$Node;II)I" } : Jvm.MethodName)) ∈ lw_all := lw_g (lw_at lw_m3 188 rfl) rfl
theorem q738 : (Jvm.Cond.code ({ cls := "DeadlineTree", name := "soonestOf", desc := "(LDeadlineTree$Node;II)I" } : Jvm.MethodName) prog_1_method_29_code (6 : Nat) (Option.some Jvm.ClassFile.FieldType.int)) ∈ lw_all := lw_g (lw_at lw_m3 189 rfl) rfl
theorem q739 : (Jvm.Cond.methodLink "DeadlineTree" (266 : Nat) ({ cls := "DeadlineTree", name := "leftOf", desc := "(II)I" } : Jvm.MethodName)) ∈ lw_all := lw_g (lw_at lw_m3 190 rfl) rfl
theorem q740 : (Jvm.Cond.privateMethod ({ cls := "DeadlineTree", name := "leftOf", desc := "(II)I" } : Jvm.MethodName)) ∈ lw_tbl := lw_at lw_m3 191 rfl
theorem q741 : (Jvm.Cond.instanceMethod ({ cls := "DeadlineTree", name := "leftOf", desc := "(II)I" } : Jvm.MethodName)) ∈ lw_all := lw_g (lw_at lw_m3 192 rfl) rfl
theorem q742 : (Jvm.Cond.code ({ cls := "DeadlineTree", name := "leftOf", desc := "(II)I" } : Jvm.MethodName) prog_1_method_30_code (4 : Nat) (Option.some Jvm.ClassFile.FieldType.int)) ∈ lw_all := lw_g (lw_at lw_m3 193 rfl) rfl
theorem q743 : (Jvm.Cond.methodLink "DeadlineTree" (273 : Nat) ({ cls := "java/lang/Math", name := "max", desc := "(II)I" } : Jvm.MethodName)) ∈ lw_all := lw_g (lw_at lw_m3 194 rfl) rfl
theorem q744 : (Jvm.Cond.methodLink "DeadlineTree" (270 : Nat) ({ cls := "DeadlineTree$Node", name := "goesLeft", desc := "(II)Z" } : Jvm.MethodName)) ∈ lw_all := lw_g (lw_at lw_m3 195 rfl) rfl
theorem q746 : (Jvm.Cond.instanceMethod ({ cls := "DeadlineTree", name := "end", desc := "(I)I" } : Jvm.MethodName)) ∈ lw_all := lw_g (lw_at lw_m3 197 rfl) rfl
theorem q747 : (Jvm.Cond.selects "DeadlineTree" ({ cls := "DeadlineTree", name := "end", desc := "(I)I" } : Jvm.MethodName) ({ cls := "DeadlineTree", name := "end", desc := "(I)I" } : Jvm.MethodName)) ∈ lw_all := lw_g (lw_at lw_m3 198 rfl) rfl
theorem q748 : (Jvm.Cond.code ({ cls := "DeadlineTree", name := "end", desc := "(I)I" } : Jvm.MethodName) prog_1_method_35_code (2 : Nat) (Option.some Jvm.ClassFile.FieldType.int)) ∈ lw_all := lw_g (lw_at lw_m3 199 rfl) rfl
theorem q749 : (Jvm.Cond.methodLink "DeadlineTree" (294 : Nat) ({ cls := "DeadlineTree", name := "lateOf", desc := "(II)I" } : Jvm.MethodName)) ∈ lw_all := lw_g (lw_at lw_m3 200 rfl) rfl
theorem q750 : (Jvm.Cond.privateMethod ({ cls := "DeadlineTree", name := "lateOf", desc := "(II)I" } : Jvm.MethodName)) ∈ lw_tbl := lw_at lw_m3 201 rfl
theorem q751 : (Jvm.Cond.instanceMethod ({ cls := "DeadlineTree", name := "lateOf", desc := "(II)I" } : Jvm.MethodName)) ∈ lw_all := lw_g (lw_at lw_m3 202 rfl) rfl
theorem q752 : (Jvm.Cond.code ({ cls := "DeadlineTree", name := "lateOf", desc := "(II)I" } : Jvm.MethodName) prog_1_method_34_code (7 : Nat) (Option.some Jvm.ClassFile.FieldType.int)) ∈ lw_all := lw_g (lw_at lw_m3 203 rfl) rfl
theorem q753 : (Jvm.Cond.methodLink "DeadlineTree" (288 : Nat) ({ cls := "DeadlineTree", name := "next", desc := "(III)I" } : Jvm.MethodName)) ∈ lw_all := lw_g (lw_at lw_m3 204 rfl) rfl
theorem q754 : (Jvm.Cond.privateMethod ({ cls := "DeadlineTree", name := "next", desc := "(III)I" } : Jvm.MethodName)) ∈ lw_tbl := lw_at lw_m3 205 rfl
theorem q755 : (Jvm.Cond.instanceMethod ({ cls := "DeadlineTree", name := "next", desc := "(III)I" } : Jvm.MethodName)) ∈ lw_all := lw_g (lw_at lw_m3 206 rfl) rfl
theorem q756 : (Jvm.Cond.code ({ cls := "DeadlineTree", name := "next", desc := "(III)I" } : Jvm.MethodName) prog_1_method_32_code (10 : Nat) (Option.some Jvm.ClassFile.FieldType.int)) ∈ lw_all := lw_g (lw_at lw_m3 207 rfl) rfl
theorem q757 : (Jvm.Cond.interfaceEntry "DeadlineTree" (278 : Nat)) ∈ lw_tbl := lw_at lw_m3 208 rfl
theorem q758 : (Jvm.Cond.methodLink "DeadlineTree" (278 : Nat) ({ cls := "DeadlineTree$Ranked", name := "rank", desc := "(II)I" } : Jvm.MethodName)) ∈ lw_all := lw_g (lw_at lw_m3 209 rfl) rfl
theorem q759 : (Jvm.Cond.interfaceEntry "DeadlineTree" (280 : Nat)) ∈ lw_tbl := lw_at lw_m3 210 rfl
theorem q760 : (Jvm.Cond.methodLink "DeadlineTree" (280 : Nat) ({ cls := "DeadlineTree$Ranked", name := "isAhead", desc := "(IIII)Z" } : Jvm.MethodName)) ∈ lw_all := lw_g (lw_at lw_m3 211 rfl) rfl
theorem q761 : (Jvm.Cond.methodLink "DeadlineTree" (291 : Nat) ({ cls := "DeadlineTree", name := "leastStart", desc := "(I)I" } : Jvm.MethodName)) ∈ lw_all := lw_g (lw_at lw_m3 212 rfl) rfl
theorem q762 : (Jvm.Cond.privateMethod ({ cls := "DeadlineTree", name := "leastStart", desc := "(I)I" } : Jvm.MethodName)) ∈ lw_tbl := lw_at lw_m3 213 rfl
theorem q763 : (Jvm.Cond.instanceMethod ({ cls := "DeadlineTree", name := "leastStart", desc := "(I)I" } : Jvm.MethodName)) ∈ lw_all := lw_g (lw_at lw_m3 214 rfl) rfl
theorem q764 : (Jvm.Cond.code ({ cls := "DeadlineTree", name := "leastStart", desc := "(I)I" } : Jvm.MethodName) prog_1_method_33_code (4 : Nat) (Option.some Jvm.ClassFile.FieldType.int)) ∈ lw_all := lw_g (lw_at lw_m3 215 rfl) rfl
theorem q765 : (Jvm.Cond.constant "DeadlineTree" (284 : Nat) (1000000 : Int32)) ∈ lw_all := lw_g (lw_at lw_m3 216 rfl) rfl
theorem q766 : (Jvm.Cond.methodLink "DeadlineTree" (285 : Nat) ({ cls := "java/lang/Math", name := "min", desc := "(II)I" } : Jvm.MethodName)) ∈ lw_all := lw_g (lw_at lw_m3 217 rfl) rfl
theorem q770 : (Jvm.Cond.instanceMethod ({ cls := "DeadlineTree", name := "late", desc := "()I" } : Jvm.MethodName)) ∈ lw_all := lw_g (lw_at lw_m3 221 rfl) rfl
theorem q771 : (Jvm.Cond.selects "DeadlineTree" ({ cls := "DeadlineTree", name := "late", desc := "()I" } : Jvm.MethodName) ({ cls := "DeadlineTree", name := "late", desc := "()I" } : Jvm.MethodName)) ∈ lw_all := lw_g (lw_at lw_m3 222 rfl) rfl
theorem q772 : (Jvm.Cond.code ({ cls := "DeadlineTree", name := "late", desc := "()I" } : Jvm.MethodName) prog_1_method_36_code (1 : Nat) (Option.some Jvm.ClassFile.FieldType.int)) ∈ lw_all := lw_g (lw_at lw_m3 223 rfl) rfl
theorem q774 : (Jvm.Cond.instanceMethod ({ cls := "DeadlineTree", name := "drop", desc := "(I)I" } : Jvm.MethodName)) ∈ lw_all := lw_g (lw_at lw_m3 225 rfl) rfl
theorem q775 : (Jvm.Cond.selects "DeadlineTree" ({ cls := "DeadlineTree", name := "drop", desc := "(I)I" } : Jvm.MethodName) ({ cls := "DeadlineTree", name := "drop", desc := "(I)I" } : Jvm.MethodName)) ∈ lw_all := lw_g (lw_at lw_m3 226 rfl) rfl
theorem q776 : (Jvm.Cond.code ({ cls := "DeadlineTree", name := "drop", desc := "(I)I" } : Jvm.MethodName) prog_1_method_37_code (6 : Nat) (Option.some Jvm.ClassFile.FieldType.int)) ∈ lw_all := lw_g (lw_at lw_m3 227 rfl) rfl
theorem q777 : (Jvm.Cond.methodLink "DeadlineTree" (297 : Nat) ({ cls := "java/lang/Integer", name := "bitCount", desc := "(I)I" } : Jvm.MethodName)) ∈ lw_all := lw_g (lw_at lw_m3 228 rfl) rfl
theorem q779 : (Jvm.Cond.instanceMethod ({ cls := "DeadlineTree", name := "more", desc := "()I" } : Jvm.MethodName)) ∈ lw_all := lw_g (lw_at lw_m3 230 rfl) rfl
theorem q780 : (Jvm.Cond.selects "DeadlineTree" ({ cls := "DeadlineTree", name := "more", desc := "()I" } : Jvm.MethodName) ({ cls := "DeadlineTree", name := "more", desc := "()I" } : Jvm.MethodName)) ∈ lw_all := lw_g (lw_at lw_m3 231 rfl) rfl
theorem q781 : (Jvm.Cond.code ({ cls := "DeadlineTree", name := "more", desc := "()I" } : Jvm.MethodName) prog_1_method_38_code (2 : Nat) (Option.some Jvm.ClassFile.FieldType.int)) ∈ lw_all := lw_g (lw_at lw_m3 232 rfl) rfl
theorem q783 : (Jvm.Cond.instanceMethod ({ cls := "DeadlineTree", name := "day", desc := "(III)I" } : Jvm.MethodName)) ∈ lw_all := lw_g (lw_at lw_m3 234 rfl) rfl
theorem q784 : (Jvm.Cond.selects "DeadlineTree" ({ cls := "DeadlineTree", name := "day", desc := "(III)I" } : Jvm.MethodName) ({ cls := "DeadlineTree", name := "day", desc := "(III)I" } : Jvm.MethodName)) ∈ lw_all := lw_g (lw_at lw_m3 235 rfl) rfl
theorem q785 : (Jvm.Cond.code ({ cls := "DeadlineTree", name := "day", desc := "(III)I" } : Jvm.MethodName) prog_1_method_41_code (8 : Nat) (Option.some Jvm.ClassFile.FieldType.int)) ∈ lw_all := lw_g (lw_at lw_m3 236 rfl) rfl
theorem q786 : (Jvm.Cond.constantLong "DeadlineTree" (304 : Nat) (9999 : Int64)) ∈ lw_all := lw_g (lw_at lw_m3 237 rfl) rfl
theorem q787 : (Jvm.Cond.constantLong "DeadlineTree" (306 : Nat) (40 : Int64)) ∈ lw_all := lw_g (lw_at lw_m3 238 rfl) rfl
theorem q788 : (Jvm.Cond.constantLong "DeadlineTree" (308 : Nat) (7919 : Int64)) ∈ lw_all := lw_g (lw_at lw_m3 239 rfl) rfl
theorem q789 : (Jvm.Cond.constantLong "DeadlineTree" (310 : Nat) (6151 : Int64)) ∈ lw_all := lw_g (lw_at lw_m4 0 rfl) rfl
theorem q790 : (Jvm.Cond.constantLong "DeadlineTree" (312 : Nat) (65521 : Int64)) ∈ lw_all := lw_g (lw_at lw_m4 1 rfl) rfl
theorem q791 : (Jvm.Cond.methodLink "DeadlineTree" (314 : Nat) ({ cls := "DeadlineTree", name := "goDrawn", desc := "(LDeadlineTree$State;I)I" } : Jvm.MethodName)) ∈ lw_all := lw_g (lw_at lw_m4 2 rfl) rfl
theorem q792 : (Jvm.Cond.privateMethod ({ cls := "DeadlineTree", name := "goDrawn", desc := "(LDeadlineTree$State;I)I" } : Jvm.MethodName)) ∈ lw_tbl := lw_at lw_m4 3 rfl
theorem q793 : (Jvm.Cond.instanceMethod ({ cls := "DeadlineTree", name := "goDrawn", desc := "(LDeadlineTree$State;I)I" } : Jvm.MethodName)) ∈ lw_all := lw_g (lw_at lw_m4 4 rfl) rfl
theorem q794 : (Jvm.Cond.code ({ cls := "DeadlineTree", name := "goDrawn", desc := "(LDeadlineTree$State;I)I" } : Jvm.MethodName) prog_1_method_39_code (4 : Nat) (Option.some Jvm.ClassFile.FieldType.int)) ∈ lw_all := lw_g (lw_at lw_m4 5 rfl) rfl
theorem q795 : (Jvm.Cond.methodLink "DeadlineTree" (300 : Nat) ({ cls := "DeadlineTree", name := "cutFrom", desc := "(LDeadlineTree$State;I)I" } : Jvm.MethodName)) ∈ lw_all := lw_g (lw_at lw_m4 6 rfl) rfl
theorem q796 : (Jvm.Cond.privateMethod ({ cls := "DeadlineTree", name := "cutFrom", desc := "(LDeadlineTree$State;I)I" } : Jvm.MethodName)) ∈ lw_tbl := lw_at lw_m4 7 rfl
theorem q797 : (Jvm.Cond.instanceMethod ({ cls := "DeadlineTree", name := "cutFrom", desc := "(LDeadlineTree$State;I)I" } : Jvm.MethodName)) ∈ lw_all := lw_g (lw_at lw_m4 8 rfl) rfl
theorem q798 : (Jvm.Cond.code ({ cls := "DeadlineTree", name := "cutFrom", desc := "(LDeadlineTree$State;I)I" } : Jvm.MethodName) prog_1_method_40_code (4 : Nat) (Option.some Jvm.ClassFile.FieldType.int)) ∈ lw_all := lw_g (lw_at lw_m4 9 rfl) rfl
theorem q800 : (Jvm.Cond.instanceMethod ({ cls := "DeadlineTree", name := "keep", desc := "()I" } : Jvm.MethodName)) ∈ lw_all := lw_g (lw_at lw_m4 11 rfl) rfl
theorem q801 : (Jvm.Cond.selects "DeadlineTree" ({ cls := "DeadlineTree", name := "keep", desc := "()I" } : Jvm.MethodName) ({ cls := "DeadlineTree", name := "keep", desc := "()I" } : Jvm.MethodName)) ∈ lw_all := lw_g (lw_at lw_m4 12 rfl) rfl
theorem q802 : (Jvm.Cond.code ({ cls := "DeadlineTree", name := "keep", desc := "()I" } : Jvm.MethodName) prog_1_method_42_code (1 : Nat) (Option.some Jvm.ClassFile.FieldType.int)) ∈ lw_all := lw_g (lw_at lw_m4 13 rfl) rfl
theorem q804 : (Jvm.Cond.instanceMethod ({ cls := "DeadlineTree", name := "back", desc := "()I" } : Jvm.MethodName)) ∈ lw_all := lw_g (lw_at lw_m4 15 rfl) rfl
theorem q805 : (Jvm.Cond.selects "DeadlineTree" ({ cls := "DeadlineTree", name := "back", desc := "()I" } : Jvm.MethodName) ({ cls := "DeadlineTree", name := "back", desc := "()I" } : Jvm.MethodName)) ∈ lw_all := lw_g (lw_at lw_m4 16 rfl) rfl
theorem q806 : (Jvm.Cond.code ({ cls := "DeadlineTree", name := "back", desc := "()I" } : Jvm.MethodName) prog_1_method_43_code (1 : Nat) (Option.some Jvm.ClassFile.FieldType.int)) ∈ lw_all := lw_g (lw_at lw_m4 17 rfl) rfl
theorem q808 : (Jvm.Cond.instanceMethod ({ cls := "DeadlineTree", name := "count", desc := "(I)I" } : Jvm.MethodName)) ∈ lw_all := lw_g (lw_at lw_m4 19 rfl) rfl
theorem q809 : (Jvm.Cond.selects "DeadlineTree" ({ cls := "DeadlineTree", name := "count", desc := "(I)I" } : Jvm.MethodName) ({ cls := "DeadlineTree", name := "count", desc := "(I)I" } : Jvm.MethodName)) ∈ lw_all := lw_g (lw_at lw_m4 20 rfl) rfl
theorem q810 : (Jvm.Cond.code ({ cls := "DeadlineTree", name := "count", desc := "(I)I" } : Jvm.MethodName) prog_1_method_45_code (2 : Nat) (Option.some Jvm.ClassFile.FieldType.int)) ∈ lw_all := lw_g (lw_at lw_m4 21 rfl) rfl
theorem q811 : (Jvm.Cond.methodLink "DeadlineTree" (321 : Nat) ({ cls := "DeadlineTree$State", name := "deepest", desc := "(LDeadlineTree$Node;)I" } : Jvm.MethodName)) ∈ lw_all := lw_g (lw_at lw_m4 22 rfl) rfl
theorem q812 : (Jvm.Cond.methodLink "DeadlineTree" (317 : Nat) ({ cls := "DeadlineTree", name := "vacant", desc := "(LDeadlineTree$Node;)I" } : Jvm.MethodName)) ∈ lw_all := lw_g (lw_at lw_m4 23 rfl) rfl
theorem q813 : (Jvm.Cond.privateMethod ({ cls := "DeadlineTree", name := "vacant", desc := "(LDeadlineTree$Node;)I" } : Jvm.MethodName)) ∈ lw_tbl := lw_at lw_m4 24 rfl
theorem q814 : (Jvm.Cond.instanceMethod ({ cls := "DeadlineTree", name := "vacant", desc := "(LDeadlineTree$Node;)I" } : Jvm.MethodName)) ∈ lw_all := lw_g (lw_at lw_m4 25 rfl) rfl
theorem q815 : (Jvm.Cond.code ({ cls := "DeadlineTree", name := "vacant", desc := "(LDeadlineTree$Node;)I" } : Jvm.MethodName) prog_1_method_44_code (3 : Nat) (Option.some Jvm.ClassFile.FieldType.int)) ∈ lw_all := lw_g (lw_at lw_m4 26 rfl) rfl
theorem in_X0 : ∀ w ∈ wsX00, w ∈ lw_all := lw_in wsX00 [555, 557, 559, 561, 563, 565, 567, 569, 571, 573, 575, 577, 579, 581, 583] (by decide +kernel) (by decide +kernel)
