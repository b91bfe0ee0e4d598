/-! DeadlineTreeModel -/
set_option maxRecDepth 100000
def RX8 : String := "DeadlineTreeModel"
def TX8 : u_T := fun k => match k with
  | 0 => ("DeadlineTreeModel", "there", "I", false)
  | 1 => ("DeadlineTreeModel", "kindOf", "[I", true)
  | 2 => ("DeadlineTreeModel", "startOf", "[I", true)
  | 3 => ("DeadlineTreeModel", "deadOf", "[I", true)
  | 4 => ("DeadlineTreeModel", "longOf", "[I", true)
  | 5 => ("DeadlineTreeModel", "root", "I", false)
  | 6 => ("DeadlineTreeModel", "leftOf", "[I", true)
  | 7 => ("DeadlineTreeModel", "rightOf", "[I", true)
  | 8 => ("DeadlineTreeModel", "jobOf", "[I", true)
  | 9 => ("DeadlineTreeModel", "splitStart", "[I", true)
  | 10 => ("DeadlineTreeModel", "splitNumber", "[I", true)
  | 11 => ("DeadlineTreeModel", "levelled", "I", false)
  | 12 => ("DeadlineTreeModel", "waits", "[I", true)
  | 13 => ("DeadlineTreeModel", "row", "[I", true)
  | 14 => ("DeadlineTreeModel", "fromOf", "[I", true)
  | 15 => ("DeadlineTreeModel", "toOf", "[I", true)
  | 16 => ("DeadlineTreeModel", "holds", "[I", true)
  | 17 => ("DeadlineTreeModel", "order", "[I", true)
  | 18 => ("DeadlineTreeModel", "stackOf", "[I", true)
  | 19 => ("DeadlineTreeModel", "ahead", "[I", true)
  | 20 => ("DeadlineTreeModel", "undoMany", "I", false)
  | 21 => ("DeadlineTreeModel", "saved", "[I", true)
  | 22 => ("DeadlineTreeModel", "savedMany", "I", false)
  | 23 => ("DeadlineTreeModel", "aside", "[I", true)
  | 24 => ("DeadlineTreeModel", "met", "[I", true)
  | 25 => ("DeadlineTreeModel", "metMany", "I", false)
  | 26 => ("DeadlineTreeModel", "endOf", "[I", true)
  | 27 => ("DeadlineTreeModel", "text", "[I", true)
  | 28 => ("DeadlineTreeModel", "size", "I", false)
  | 29 => ("DeadlineTreeModel", "readAt", "I", false)
  | 30 => ("DeadlineTreeModel", "readMany", "I", false)
  | 31 => ("DeadlineTreeModel", "readNumber", "I", false)
  | _ => ("DeadlineTreeModel", "readJob", "[I", true)
def tyX8 : Nat → FieldType := fun k => match k with
  | 0 => .int
  | 1 => .array .int
  | 2 => .array .int
  | 3 => .array .int
  | 4 => .array .int
  | 5 => .int
  | 6 => .array .int
  | 7 => .array .int
  | 8 => .array .int
  | 9 => .array .int
  | 10 => .array .int
  | 11 => .int
  | 12 => .array .int
  | 13 => .array .int
  | 14 => .array .int
  | 15 => .array .int
  | 16 => .array .int
  | 17 => .array .int
  | 18 => .array .int
  | 19 => .array .int
  | 20 => .int
  | 21 => .array .int
  | 22 => .int
  | 23 => .array .int
  | 24 => .array .int
  | 25 => .int
  | 26 => .array .int
  | 27 => .array .int
  | 28 => .int
  | 29 => .int
  | 30 => .int
  | 31 => .int
  | _ => .array .int
abbrev wsX80 : List Cond := u_ws RX8 TX8 33
set_option maxRecDepth 100000 in
theorem nmX8 : ∀ a, a < 33 → ∀ b, b < 33 → a ≠ b → (TX8 a).2.1 ≠ (TX8 b).2.1 := by decide +kernel
set_option maxRecDepth 100000 in
theorem tyX8_ok : ∀ k, k < 33 → parseFieldDescriptor (TX8 k).2.2.1 = some (tyX8 k) := by decide +kernel
abbrev cX8_init : ByteArray := prog_11_method_3_code
def yX8_init : MethodName := ⟨RX8, "<init>", "()V"⟩
def dkwX8_init_12 : List UInt8 := [6, 182, 0, 86, 87, 42, 5, 5, 16, 28, 7, 182, 0, 86, 87, 177]
abbrev dktX8_init_12 : List UInt8 := dkwX8_init_12 ++ []
def dkwX8_init_11 : List UInt8 := [16, 45, 4, 182, 0, 86, 87, 42, 4, 16, 55, 16, 80, 5, 182, 0, 86, 87, 42, 3, 16, 70, 16, 75]
abbrev dktX8_init_11 : List UInt8 := dkwX8_init_11 ++ dktX8_init_12
def dkwX8_init_10 : List UInt8 := [16, 33, 8, 182, 0, 86, 87, 42, 6, 16, 30, 16, 90, 16, 6, 182, 0, 86, 87, 42, 3, 16, 20]
abbrev dktX8_init_10 : List UInt8 := dkwX8_init_10 ++ dktX8_init_11
def dkwX8_init_9 : List UInt8 := [4, 8, 16, 70, 7, 182, 0, 86, 87, 42, 5, 16, 40, 16, 50, 5, 182, 0, 86, 87, 42, 3, 16, 12]
abbrev dktX8_init_9 : List UInt8 := dkwX8_init_9 ++ dktX8_init_10
def dkwX8_init_8 : List UInt8 := [42, 16, 48, 188, 10, 181, 0, 80, 42, 182, 0, 83, 42, 3, 16, 20, 16, 60, 6, 182, 0, 86, 87, 42]
abbrev dktX8_init_8 : List UInt8 := dkwX8_init_8 ++ dktX8_init_9
def dkwX8_init_7 : List UInt8 := [16, 12, 188, 10, 181, 0, 71, 42, 16, 12, 188, 10, 181, 0, 74, 42, 17, 0, 200, 188, 10, 181, 0, 77]
abbrev dktX8_init_7 : List UInt8 := dkwX8_init_7 ++ dktX8_init_8
def dkwX8_init_6 : List UInt8 := [188, 10, 181, 0, 62, 42, 17, 1, 86, 188, 10, 181, 0, 65, 42, 17, 0, 171, 188, 10, 181, 0, 68, 42]
abbrev dktX8_init_6 : List UInt8 := dkwX8_init_6 ++ dktX8_init_7
def dkwX8_init_5 : List UInt8 := [181, 0, 53, 42, 16, 24, 188, 10, 181, 0, 56, 42, 16, 24, 188, 10, 181, 0, 59, 42, 17, 5, 88]
abbrev dktX8_init_5 : List UInt8 := dkwX8_init_5 ++ dktX8_init_6
def dkwX8_init_4 : List UInt8 := [181, 0, 44, 42, 16, 24, 188, 10, 181, 0, 47, 42, 16, 24, 188, 10, 181, 0, 50, 42, 16, 24, 188, 10]
abbrev dktX8_init_4 : List UInt8 := dkwX8_init_4 ++ dktX8_init_5
def dkwX8_init_3 : List UInt8 := [181, 0, 35, 42, 16, 24, 188, 10, 181, 0, 38, 42, 16, 24, 188, 10, 181, 0, 41, 42, 16, 12, 188, 10]
abbrev dktX8_init_3 : List UInt8 := dkwX8_init_3 ++ dktX8_init_4
def dkwX8_init_2 : List UInt8 := [181, 0, 26, 42, 16, 24, 188, 10, 181, 0, 29, 42, 16, 24, 188, 10, 181, 0, 32, 42, 16, 24, 188, 10]
abbrev dktX8_init_2 : List UInt8 := dkwX8_init_2 ++ dktX8_init_3
def dkwX8_init_1 : List UInt8 := [188, 10, 181, 0, 16, 42, 16, 12, 188, 10, 181, 0, 19, 42, 16, 252, 181, 0, 22, 42, 16, 24, 188, 10]
abbrev dktX8_init_1 : List UInt8 := dkwX8_init_1 ++ dktX8_init_2
def dkwX8_init_0 : List UInt8 := [42, 183, 0, 1, 42, 16, 12, 188, 10, 181, 0, 7, 42, 16, 12, 188, 10, 181, 0, 13, 42, 16, 12]
abbrev dktX8_init_0 : List UInt8 := dkwX8_init_0 ++ dktX8_init_1
theorem dksX8_init_0 : cX8_init.data.toList.drop 0 = dktX8_init_0 := by decide +kernel
theorem dksX8_init_1 : cX8_init.data.toList.drop 23 = dktX8_init_1 := dk_seg dksX8_init_0 23 rfl rfl
theorem dksX8_init_2 : cX8_init.data.toList.drop 47 = dktX8_init_2 := dk_seg dksX8_init_1 24 rfl rfl
theorem dksX8_init_3 : cX8_init.data.toList.drop 71 = dktX8_init_3 := dk_seg dksX8_init_2 24 rfl rfl
theorem dksX8_init_4 : cX8_init.data.toList.drop 95 = dktX8_init_4 := dk_seg dksX8_init_3 24 rfl rfl
theorem dksX8_init_5 : cX8_init.data.toList.drop 119 = dktX8_init_5 := dk_seg dksX8_init_4 24 rfl rfl
theorem dksX8_init_6 : cX8_init.data.toList.drop 142 = dktX8_init_6 := dk_seg dksX8_init_5 23 rfl rfl
theorem dksX8_init_7 : cX8_init.data.toList.drop 166 = dktX8_init_7 := dk_seg dksX8_init_6 24 rfl rfl
theorem dksX8_init_8 : cX8_init.data.toList.drop 190 = dktX8_init_8 := dk_seg dksX8_init_7 24 rfl rfl
theorem dksX8_init_9 : cX8_init.data.toList.drop 214 = dktX8_init_9 := dk_seg dksX8_init_8 24 rfl rfl
theorem dksX8_init_10 : cX8_init.data.toList.drop 238 = dktX8_init_10 := dk_seg dksX8_init_9 24 rfl rfl
theorem dksX8_init_11 : cX8_init.data.toList.drop 261 = dktX8_init_11 := dk_seg dksX8_init_10 23 rfl rfl
theorem dksX8_init_12 : cX8_init.data.toList.drop 285 = dktX8_init_12 := dk_seg dksX8_init_11 24 rfl rfl
theorem dX8_init_0 : decode cX8_init 0 = .ok (.aload_n 0, 1) := dk_42 (dk_at dksX8_init_0 0 rfl rfl)
theorem dX8_init_1 : decode cX8_init 1 = .ok (.invokespecial 1, 3) := dk_183 0 1 (dk_at dksX8_init_0 1 rfl rfl)
theorem dX8_init_4 : decode cX8_init 4 = .ok (.aload_n 0, 1) := dk_42 (dk_at dksX8_init_0 4 rfl rfl)
theorem dX8_init_5 : decode cX8_init 5 = .ok (.bipush 12, 2) := dk_16 12 (dk_at dksX8_init_0 5 rfl rfl)
theorem dX8_init_7 : decode cX8_init 7 = .ok (.newarray .int, 2) := dk_188_10 (dk_at dksX8_init_0 7 rfl rfl)
theorem dX8_init_9 : decode cX8_init 9 = .ok (.putfield 7, 3) := dk_181 0 7 (dk_at dksX8_init_0 9 rfl rfl)
theorem dX8_init_12 : decode cX8_init 12 = .ok (.aload_n 0, 1) := dk_42 (dk_at dksX8_init_0 12 rfl rfl)
theorem dX8_init_13 : decode cX8_init 13 = .ok (.bipush 12, 2) := dk_16 12 (dk_at dksX8_init_0 13 rfl rfl)
theorem dX8_init_15 : decode cX8_init 15 = .ok (.newarray .int, 2) := dk_188_10 (dk_at dksX8_init_0 15 rfl rfl)
theorem dX8_init_17 : decode cX8_init 17 = .ok (.putfield 13, 3) := dk_181 0 13 (dk_at dksX8_init_0 17 rfl rfl)
theorem dX8_init_20 : decode cX8_init 20 = .ok (.aload_n 0, 1) := dk_42 (dk_at dksX8_init_0 20 rfl rfl)
theorem dX8_init_21 : decode cX8_init 21 = .ok (.bipush 12, 2) := dk_16 12 (dk_at dksX8_init_0 21 rfl rfl)
theorem dX8_init_23 : decode cX8_init 23 = .ok (.newarray .int, 2) := dk_188_10 (dk_at dksX8_init_1 0 rfl rfl)
theorem dX8_init_25 : decode cX8_init 25 = .ok (.putfield 16, 3) := dk_181 0 16 (dk_at dksX8_init_1 2 rfl rfl)
theorem dX8_init_28 : decode cX8_init 28 = .ok (.aload_n 0, 1) := dk_42 (dk_at dksX8_init_1 5 rfl rfl)
theorem dX8_init_29 : decode cX8_init 29 = .ok (.bipush 12, 2) := dk_16 12 (dk_at dksX8_init_1 6 rfl rfl)
theorem dX8_init_31 : decode cX8_init 31 = .ok (.newarray .int, 2) := dk_188_10 (dk_at dksX8_init_1 8 rfl rfl)
theorem dX8_init_33 : decode cX8_init 33 = .ok (.putfield 19, 3) := dk_181 0 19 (dk_at dksX8_init_1 10 rfl rfl)
theorem dX8_init_36 : decode cX8_init 36 = .ok (.aload_n 0, 1) := dk_42 (dk_at dksX8_init_1 13 rfl rfl)
theorem dX8_init_37 : decode cX8_init 37 = .ok (.bipush (-4), 2) := dk_16 252 (dk_at dksX8_init_1 14 rfl rfl)
theorem dX8_init_39 : decode cX8_init 39 = .ok (.putfield 22, 3) := dk_181 0 22 (dk_at dksX8_init_1 16 rfl rfl)
theorem dX8_init_42 : decode cX8_init 42 = .ok (.aload_n 0, 1) := dk_42 (dk_at dksX8_init_1 19 rfl rfl)
theorem dX8_init_43 : decode cX8_init 43 = .ok (.bipush 24, 2) := dk_16 24 (dk_at dksX8_init_1 20 rfl rfl)
theorem dX8_init_45 : decode cX8_init 45 = .ok (.newarray .int, 2) := dk_188_10 (dk_at dksX8_init_1 22 rfl rfl)
theorem dX8_init_47 : decode cX8_init 47 = .ok (.putfield 26, 3) := dk_181 0 26 (dk_at dksX8_init_2 0 rfl rfl)
theorem dX8_init_50 : decode cX8_init 50 = .ok (.aload_n 0, 1) := dk_42 (dk_at dksX8_init_2 3 rfl rfl)
theorem dX8_init_51 : decode cX8_init 51 = .ok (.bipush 24, 2) := dk_16 24 (dk_at dksX8_init_2 4 rfl rfl)
theorem dX8_init_53 : decode cX8_init 53 = .ok (.newarray .int, 2) := dk_188_10 (dk_at dksX8_init_2 6 rfl rfl)
theorem dX8_init_55 : decode cX8_init 55 = .ok (.putfield 29, 3) := dk_181 0 29 (dk_at dksX8_init_2 8 rfl rfl)
theorem dX8_init_58 : decode cX8_init 58 = .ok (.aload_n 0, 1) := dk_42 (dk_at dksX8_init_2 11 rfl rfl)
theorem dX8_init_59 : decode cX8_init 59 = .ok (.bipush 24, 2) := dk_16 24 (dk_at dksX8_init_2 12 rfl rfl)
theorem dX8_init_61 : decode cX8_init 61 = .ok (.newarray .int, 2) := dk_188_10 (dk_at dksX8_init_2 14 rfl rfl)
theorem dX8_init_63 : decode cX8_init 63 = .ok (.putfield 32, 3) := dk_181 0 32 (dk_at dksX8_init_2 16 rfl rfl)
theorem dX8_init_66 : decode cX8_init 66 = .ok (.aload_n 0, 1) := dk_42 (dk_at dksX8_init_2 19 rfl rfl)
theorem dX8_init_67 : decode cX8_init 67 = .ok (.bipush 24, 2) := dk_16 24 (dk_at dksX8_init_2 20 rfl rfl)
theorem dX8_init_69 : decode cX8_init 69 = .ok (.newarray .int, 2) := dk_188_10 (dk_at dksX8_init_2 22 rfl rfl)
theorem dX8_init_71 : decode cX8_init 71 = .ok (.putfield 35, 3) := dk_181 0 35 (dk_at dksX8_init_3 0 rfl rfl)
theorem dX8_init_74 : decode cX8_init 74 = .ok (.aload_n 0, 1) := dk_42 (dk_at dksX8_init_3 3 rfl rfl)
theorem dX8_init_75 : decode cX8_init 75 = .ok (.bipush 24, 2) := dk_16 24 (dk_at dksX8_init_3 4 rfl rfl)
theorem dX8_init_77 : decode cX8_init 77 = .ok (.newarray .int, 2) := dk_188_10 (dk_at dksX8_init_3 6 rfl rfl)
theorem dX8_init_79 : decode cX8_init 79 = .ok (.putfield 38, 3) := dk_181 0 38 (dk_at dksX8_init_3 8 rfl rfl)
theorem dX8_init_82 : decode cX8_init 82 = .ok (.aload_n 0, 1) := dk_42 (dk_at dksX8_init_3 11 rfl rfl)
theorem dX8_init_83 : decode cX8_init 83 = .ok (.bipush 24, 2) := dk_16 24 (dk_at dksX8_init_3 12 rfl rfl)
theorem dX8_init_85 : decode cX8_init 85 = .ok (.newarray .int, 2) := dk_188_10 (dk_at dksX8_init_3 14 rfl rfl)
theorem dX8_init_87 : decode cX8_init 87 = .ok (.putfield 41, 3) := dk_181 0 41 (dk_at dksX8_init_3 16 rfl rfl)
theorem dX8_init_90 : decode cX8_init 90 = .ok (.aload_n 0, 1) := dk_42 (dk_at dksX8_init_3 19 rfl rfl)
theorem dX8_init_91 : decode cX8_init 91 = .ok (.bipush 12, 2) := dk_16 12 (dk_at dksX8_init_3 20 rfl rfl)
theorem dX8_init_93 : decode cX8_init 93 = .ok (.newarray .int, 2) := dk_188_10 (dk_at dksX8_init_3 22 rfl rfl)
theorem dX8_init_95 : decode cX8_init 95 = .ok (.putfield 44, 3) := dk_181 0 44 (dk_at dksX8_init_4 0 rfl rfl)
theorem dX8_init_98 : decode cX8_init 98 = .ok (.aload_n 0, 1) := dk_42 (dk_at dksX8_init_4 3 rfl rfl)
theorem dX8_init_99 : decode cX8_init 99 = .ok (.bipush 24, 2) := dk_16 24 (dk_at dksX8_init_4 4 rfl rfl)
theorem dX8_init_101 : decode cX8_init 101 = .ok (.newarray .int, 2) := dk_188_10 (dk_at dksX8_init_4 6 rfl rfl)
theorem dX8_init_103 : decode cX8_init 103 = .ok (.putfield 47, 3) := dk_181 0 47 (dk_at dksX8_init_4 8 rfl rfl)
theorem dX8_init_106 : decode cX8_init 106 = .ok (.aload_n 0, 1) := dk_42 (dk_at dksX8_init_4 11 rfl rfl)
theorem dX8_init_107 : decode cX8_init 107 = .ok (.bipush 24, 2) := dk_16 24 (dk_at dksX8_init_4 12 rfl rfl)
theorem dX8_init_109 : decode cX8_init 109 = .ok (.newarray .int, 2) := dk_188_10 (dk_at dksX8_init_4 14 rfl rfl)
theorem dX8_init_111 : decode cX8_init 111 = .ok (.putfield 50, 3) := dk_181 0 50 (dk_at dksX8_init_4 16 rfl rfl)
theorem dX8_init_114 : decode cX8_init 114 = .ok (.aload_n 0, 1) := dk_42 (dk_at dksX8_init_4 19 rfl rfl)
theorem dX8_init_115 : decode cX8_init 115 = .ok (.bipush 24, 2) := dk_16 24 (dk_at dksX8_init_4 20 rfl rfl)
theorem dX8_init_117 : decode cX8_init 117 = .ok (.newarray .int, 2) := dk_188_10 (dk_at dksX8_init_4 22 rfl rfl)
theorem dX8_init_119 : decode cX8_init 119 = .ok (.putfield 53, 3) := dk_181 0 53 (dk_at dksX8_init_5 0 rfl rfl)
theorem dX8_init_122 : decode cX8_init 122 = .ok (.aload_n 0, 1) := dk_42 (dk_at dksX8_init_5 3 rfl rfl)
theorem dX8_init_123 : decode cX8_init 123 = .ok (.bipush 24, 2) := dk_16 24 (dk_at dksX8_init_5 4 rfl rfl)
theorem dX8_init_125 : decode cX8_init 125 = .ok (.newarray .int, 2) := dk_188_10 (dk_at dksX8_init_5 6 rfl rfl)
theorem dX8_init_127 : decode cX8_init 127 = .ok (.putfield 56, 3) := dk_181 0 56 (dk_at dksX8_init_5 8 rfl rfl)
theorem dX8_init_130 : decode cX8_init 130 = .ok (.aload_n 0, 1) := dk_42 (dk_at dksX8_init_5 11 rfl rfl)
theorem dX8_init_131 : decode cX8_init 131 = .ok (.bipush 24, 2) := dk_16 24 (dk_at dksX8_init_5 12 rfl rfl)
theorem dX8_init_133 : decode cX8_init 133 = .ok (.newarray .int, 2) := dk_188_10 (dk_at dksX8_init_5 14 rfl rfl)
theorem dX8_init_135 : decode cX8_init 135 = .ok (.putfield 59, 3) := dk_181 0 59 (dk_at dksX8_init_5 16 rfl rfl)
theorem dX8_init_138 : decode cX8_init 138 = .ok (.aload_n 0, 1) := dk_42 (dk_at dksX8_init_5 19 rfl rfl)
theorem dX8_init_139 : decode cX8_init 139 = .ok (.sipush 1368, 3) := dk_17 5 88 (dk_at dksX8_init_5 20 rfl rfl)
theorem dX8_init_142 : decode cX8_init 142 = .ok (.newarray .int, 2) := dk_188_10 (dk_at dksX8_init_6 0 rfl rfl)
theorem dX8_init_144 : decode cX8_init 144 = .ok (.putfield 62, 3) := dk_181 0 62 (dk_at dksX8_init_6 2 rfl rfl)
theorem dX8_init_147 : decode cX8_init 147 = .ok (.aload_n 0, 1) := dk_42 (dk_at dksX8_init_6 5 rfl rfl)
theorem dX8_init_148 : decode cX8_init 148 = .ok (.sipush 342, 3) := dk_17 1 86 (dk_at dksX8_init_6 6 rfl rfl)
theorem dX8_init_151 : decode cX8_init 151 = .ok (.newarray .int, 2) := dk_188_10 (dk_at dksX8_init_6 9 rfl rfl)
theorem dX8_init_153 : decode cX8_init 153 = .ok (.putfield 65, 3) := dk_181 0 65 (dk_at dksX8_init_6 11 rfl rfl)
theorem dX8_init_156 : decode cX8_init 156 = .ok (.aload_n 0, 1) := dk_42 (dk_at dksX8_init_6 14 rfl rfl)
theorem dX8_init_157 : decode cX8_init 157 = .ok (.sipush 171, 3) := dk_17 0 171 (dk_at dksX8_init_6 15 rfl rfl)
theorem dX8_init_160 : decode cX8_init 160 = .ok (.newarray .int, 2) := dk_188_10 (dk_at dksX8_init_6 18 rfl rfl)
theorem dX8_init_162 : decode cX8_init 162 = .ok (.putfield 68, 3) := dk_181 0 68 (dk_at dksX8_init_6 20 rfl rfl)
theorem dX8_init_165 : decode cX8_init 165 = .ok (.aload_n 0, 1) := dk_42 (dk_at dksX8_init_6 23 rfl rfl)
theorem dX8_init_166 : decode cX8_init 166 = .ok (.bipush 12, 2) := dk_16 12 (dk_at dksX8_init_7 0 rfl rfl)
theorem dX8_init_168 : decode cX8_init 168 = .ok (.newarray .int, 2) := dk_188_10 (dk_at dksX8_init_7 2 rfl rfl)
theorem dX8_init_170 : decode cX8_init 170 = .ok (.putfield 71, 3) := dk_181 0 71 (dk_at dksX8_init_7 4 rfl rfl)
theorem dX8_init_173 : decode cX8_init 173 = .ok (.aload_n 0, 1) := dk_42 (dk_at dksX8_init_7 7 rfl rfl)
theorem dX8_init_174 : decode cX8_init 174 = .ok (.bipush 12, 2) := dk_16 12 (dk_at dksX8_init_7 8 rfl rfl)
theorem dX8_init_176 : decode cX8_init 176 = .ok (.newarray .int, 2) := dk_188_10 (dk_at dksX8_init_7 10 rfl rfl)
theorem dX8_init_178 : decode cX8_init 178 = .ok (.putfield 74, 3) := dk_181 0 74 (dk_at dksX8_init_7 12 rfl rfl)
theorem dX8_init_181 : decode cX8_init 181 = .ok (.aload_n 0, 1) := dk_42 (dk_at dksX8_init_7 15 rfl rfl)
theorem dX8_init_182 : decode cX8_init 182 = .ok (.sipush 200, 3) := dk_17 0 200 (dk_at dksX8_init_7 16 rfl rfl)
theorem dX8_init_185 : decode cX8_init 185 = .ok (.newarray .int, 2) := dk_188_10 (dk_at dksX8_init_7 19 rfl rfl)
theorem dX8_init_187 : decode cX8_init 187 = .ok (.putfield 77, 3) := dk_181 0 77 (dk_at dksX8_init_7 21 rfl rfl)
theorem dX8_init_190 : decode cX8_init 190 = .ok (.aload_n 0, 1) := dk_42 (dk_at dksX8_init_8 0 rfl rfl)
theorem dX8_init_191 : decode cX8_init 191 = .ok (.bipush 48, 2) := dk_16 48 (dk_at dksX8_init_8 1 rfl rfl)
theorem dX8_init_193 : decode cX8_init 193 = .ok (.newarray .int, 2) := dk_188_10 (dk_at dksX8_init_8 3 rfl rfl)
theorem dX8_init_195 : decode cX8_init 195 = .ok (.putfield 80, 3) := dk_181 0 80 (dk_at dksX8_init_8 5 rfl rfl)
theorem dX8_init_198 : decode cX8_init 198 = .ok (.aload_n 0, 1) := dk_42 (dk_at dksX8_init_8 8 rfl rfl)
theorem dX8_init_199 : decode cX8_init 199 = .ok (.invokevirtual 83, 3) := dk_182 0 83 (dk_at dksX8_init_8 9 rfl rfl)
theorem dX8_init_202 : decode cX8_init 202 = .ok (.aload_n 0, 1) := dk_42 (dk_at dksX8_init_8 12 rfl rfl)
theorem dX8_init_203 : decode cX8_init 203 = .ok (.iconst 0, 1) := dk_3 (dk_at dksX8_init_8 13 rfl rfl)
theorem dX8_init_204 : decode cX8_init 204 = .ok (.bipush 20, 2) := dk_16 20 (dk_at dksX8_init_8 14 rfl rfl)
theorem dX8_init_206 : decode cX8_init 206 = .ok (.bipush 60, 2) := dk_16 60 (dk_at dksX8_init_8 16 rfl rfl)
theorem dX8_init_208 : decode cX8_init 208 = .ok (.iconst 3, 1) := dk_6 (dk_at dksX8_init_8 18 rfl rfl)
theorem dX8_init_209 : decode cX8_init 209 = .ok (.invokevirtual 86, 3) := dk_182 0 86 (dk_at dksX8_init_8 19 rfl rfl)
theorem dX8_init_212 : decode cX8_init 212 = .ok (.pop, 1) := dk_87 (dk_at dksX8_init_8 22 rfl rfl)
theorem dX8_init_213 : decode cX8_init 213 = .ok (.aload_n 0, 1) := dk_42 (dk_at dksX8_init_8 23 rfl rfl)
theorem dX8_init_214 : decode cX8_init 214 = .ok (.iconst 1, 1) := dk_4 (dk_at dksX8_init_9 0 rfl rfl)
theorem dX8_init_215 : decode cX8_init 215 = .ok (.iconst 5, 1) := dk_8 (dk_at dksX8_init_9 1 rfl rfl)
theorem dX8_init_216 : decode cX8_init 216 = .ok (.bipush 70, 2) := dk_16 70 (dk_at dksX8_init_9 2 rfl rfl)
theorem dX8_init_218 : decode cX8_init 218 = .ok (.iconst 4, 1) := dk_7 (dk_at dksX8_init_9 4 rfl rfl)
theorem dX8_init_219 : decode cX8_init 219 = .ok (.invokevirtual 86, 3) := dk_182 0 86 (dk_at dksX8_init_9 5 rfl rfl)
theorem dX8_init_222 : decode cX8_init 222 = .ok (.pop, 1) := dk_87 (dk_at dksX8_init_9 8 rfl rfl)
theorem dX8_init_223 : decode cX8_init 223 = .ok (.aload_n 0, 1) := dk_42 (dk_at dksX8_init_9 9 rfl rfl)
theorem dX8_init_224 : decode cX8_init 224 = .ok (.iconst 2, 1) := dk_5 (dk_at dksX8_init_9 10 rfl rfl)
theorem dX8_init_225 : decode cX8_init 225 = .ok (.bipush 40, 2) := dk_16 40 (dk_at dksX8_init_9 11 rfl rfl)
theorem dX8_init_227 : decode cX8_init 227 = .ok (.bipush 50, 2) := dk_16 50 (dk_at dksX8_init_9 13 rfl rfl)
theorem dX8_init_229 : decode cX8_init 229 = .ok (.iconst 2, 1) := dk_5 (dk_at dksX8_init_9 15 rfl rfl)
theorem dX8_init_230 : decode cX8_init 230 = .ok (.invokevirtual 86, 3) := dk_182 0 86 (dk_at dksX8_init_9 16 rfl rfl)
theorem dX8_init_233 : decode cX8_init 233 = .ok (.pop, 1) := dk_87 (dk_at dksX8_init_9 19 rfl rfl)
theorem dX8_init_234 : decode cX8_init 234 = .ok (.aload_n 0, 1) := dk_42 (dk_at dksX8_init_9 20 rfl rfl)
theorem dX8_init_235 : decode cX8_init 235 = .ok (.iconst 0, 1) := dk_3 (dk_at dksX8_init_9 21 rfl rfl)
theorem dX8_init_236 : decode cX8_init 236 = .ok (.bipush 12, 2) := dk_16 12 (dk_at dksX8_init_9 22 rfl rfl)
theorem dX8_init_238 : decode cX8_init 238 = .ok (.bipush 33, 2) := dk_16 33 (dk_at dksX8_init_10 0 rfl rfl)
theorem dX8_init_240 : decode cX8_init 240 = .ok (.iconst 5, 1) := dk_8 (dk_at dksX8_init_10 2 rfl rfl)
theorem dX8_init_241 : decode cX8_init 241 = .ok (.invokevirtual 86, 3) := dk_182 0 86 (dk_at dksX8_init_10 3 rfl rfl)
theorem dX8_init_244 : decode cX8_init 244 = .ok (.pop, 1) := dk_87 (dk_at dksX8_init_10 6 rfl rfl)
theorem dX8_init_245 : decode cX8_init 245 = .ok (.aload_n 0, 1) := dk_42 (dk_at dksX8_init_10 7 rfl rfl)
theorem dX8_init_246 : decode cX8_init 246 = .ok (.iconst 3, 1) := dk_6 (dk_at dksX8_init_10 8 rfl rfl)
theorem dX8_init_247 : decode cX8_init 247 = .ok (.bipush 30, 2) := dk_16 30 (dk_at dksX8_init_10 9 rfl rfl)
theorem dX8_init_249 : decode cX8_init 249 = .ok (.bipush 90, 2) := dk_16 90 (dk_at dksX8_init_10 11 rfl rfl)
theorem dX8_init_251 : decode cX8_init 251 = .ok (.bipush 6, 2) := dk_16 6 (dk_at dksX8_init_10 13 rfl rfl)
theorem dX8_init_253 : decode cX8_init 253 = .ok (.invokevirtual 86, 3) := dk_182 0 86 (dk_at dksX8_init_10 15 rfl rfl)
theorem dX8_init_256 : decode cX8_init 256 = .ok (.pop, 1) := dk_87 (dk_at dksX8_init_10 18 rfl rfl)
theorem dX8_init_257 : decode cX8_init 257 = .ok (.aload_n 0, 1) := dk_42 (dk_at dksX8_init_10 19 rfl rfl)
theorem dX8_init_258 : decode cX8_init 258 = .ok (.iconst 0, 1) := dk_3 (dk_at dksX8_init_10 20 rfl rfl)
theorem dX8_init_259 : decode cX8_init 259 = .ok (.bipush 20, 2) := dk_16 20 (dk_at dksX8_init_10 21 rfl rfl)
theorem dX8_init_261 : decode cX8_init 261 = .ok (.bipush 45, 2) := dk_16 45 (dk_at dksX8_init_11 0 rfl rfl)
theorem dX8_init_263 : decode cX8_init 263 = .ok (.iconst 1, 1) := dk_4 (dk_at dksX8_init_11 2 rfl rfl)
theorem dX8_init_264 : decode cX8_init 264 = .ok (.invokevirtual 86, 3) := dk_182 0 86 (dk_at dksX8_init_11 3 rfl rfl)
theorem dX8_init_267 : decode cX8_init 267 = .ok (.pop, 1) := dk_87 (dk_at dksX8_init_11 6 rfl rfl)
theorem dX8_init_268 : decode cX8_init 268 = .ok (.aload_n 0, 1) := dk_42 (dk_at dksX8_init_11 7 rfl rfl)
theorem dX8_init_269 : decode cX8_init 269 = .ok (.iconst 1, 1) := dk_4 (dk_at dksX8_init_11 8 rfl rfl)
theorem dX8_init_270 : decode cX8_init 270 = .ok (.bipush 55, 2) := dk_16 55 (dk_at dksX8_init_11 9 rfl rfl)
theorem dX8_init_272 : decode cX8_init 272 = .ok (.bipush 80, 2) := dk_16 80 (dk_at dksX8_init_11 11 rfl rfl)
theorem dX8_init_274 : decode cX8_init 274 = .ok (.iconst 2, 1) := dk_5 (dk_at dksX8_init_11 13 rfl rfl)
theorem dX8_init_275 : decode cX8_init 275 = .ok (.invokevirtual 86, 3) := dk_182 0 86 (dk_at dksX8_init_11 14 rfl rfl)
theorem dX8_init_278 : decode cX8_init 278 = .ok (.pop, 1) := dk_87 (dk_at dksX8_init_11 17 rfl rfl)
theorem dX8_init_279 : decode cX8_init 279 = .ok (.aload_n 0, 1) := dk_42 (dk_at dksX8_init_11 18 rfl rfl)
theorem dX8_init_280 : decode cX8_init 280 = .ok (.iconst 0, 1) := dk_3 (dk_at dksX8_init_11 19 rfl rfl)
theorem dX8_init_281 : decode cX8_init 281 = .ok (.bipush 70, 2) := dk_16 70 (dk_at dksX8_init_11 20 rfl rfl)
theorem dX8_init_283 : decode cX8_init 283 = .ok (.bipush 75, 2) := dk_16 75 (dk_at dksX8_init_11 22 rfl rfl)
theorem dX8_init_285 : decode cX8_init 285 = .ok (.iconst 3, 1) := dk_6 (dk_at dksX8_init_12 0 rfl rfl)
theorem dX8_init_286 : decode cX8_init 286 = .ok (.invokevirtual 86, 3) := dk_182 0 86 (dk_at dksX8_init_12 1 rfl rfl)
theorem dX8_init_289 : decode cX8_init 289 = .ok (.pop, 1) := dk_87 (dk_at dksX8_init_12 4 rfl rfl)
theorem dX8_init_290 : decode cX8_init 290 = .ok (.aload_n 0, 1) := dk_42 (dk_at dksX8_init_12 5 rfl rfl)
theorem dX8_init_291 : decode cX8_init 291 = .ok (.iconst 2, 1) := dk_5 (dk_at dksX8_init_12 6 rfl rfl)
theorem dX8_init_292 : decode cX8_init 292 = .ok (.iconst 2, 1) := dk_5 (dk_at dksX8_init_12 7 rfl rfl)
theorem dX8_init_293 : decode cX8_init 293 = .ok (.bipush 28, 2) := dk_16 28 (dk_at dksX8_init_12 8 rfl rfl)
theorem dX8_init_295 : decode cX8_init 295 = .ok (.iconst 4, 1) := dk_7 (dk_at dksX8_init_12 10 rfl rfl)
theorem dX8_init_296 : decode cX8_init 296 = .ok (.invokevirtual 86, 3) := dk_182 0 86 (dk_at dksX8_init_12 11 rfl rfl)
theorem dX8_init_299 : decode cX8_init 299 = .ok (.pop, 1) := dk_87 (dk_at dksX8_init_12 14 rfl rfl)
theorem dX8_init_300 : decode cX8_init 300 = .ok (.return_, 1) := dk_177 (dk_at dksX8_init_12 15 rfl rfl)
abbrev cX8_empties : ByteArray := prog_11_method_4_code
def yX8_empties : MethodName := ⟨RX8, "empties", "()V"⟩
def dkwX8_empties_1 : List UInt8 := [16, 254, 79, 132, 1, 1, 167, 255, 239, 177]
abbrev dktX8_empties_1 : List UInt8 := dkwX8_empties_1 ++ []
def dkwX8_empties_0 : List UInt8 := [42, 3, 181, 0, 90, 42, 16, 252, 181, 0, 22, 3, 60, 27, 16, 24, 162, 0, 17, 42, 180, 0, 26, 27]
abbrev dktX8_empties_0 : List UInt8 := dkwX8_empties_0 ++ dktX8_empties_1
theorem dksX8_empties_0 : cX8_empties.data.toList.drop 0 = dktX8_empties_0 := by decide +kernel
theorem dksX8_empties_1 : cX8_empties.data.toList.drop 24 = dktX8_empties_1 := dk_seg dksX8_empties_0 24 rfl rfl
theorem dX8_empties_0 : decode cX8_empties 0 = .ok (.aload_n 0, 1) := dk_42 (dk_at dksX8_empties_0 0 rfl rfl)
theorem dX8_empties_1 : decode cX8_empties 1 = .ok (.iconst 0, 1) := dk_3 (dk_at dksX8_empties_0 1 rfl rfl)
theorem dX8_empties_2 : decode cX8_empties 2 = .ok (.putfield 90, 3) := dk_181 0 90 (dk_at dksX8_empties_0 2 rfl rfl)
theorem dX8_empties_5 : decode cX8_empties 5 = .ok (.aload_n 0, 1) := dk_42 (dk_at dksX8_empties_0 5 rfl rfl)
theorem dX8_empties_6 : decode cX8_empties 6 = .ok (.bipush (-4), 2) := dk_16 252 (dk_at dksX8_empties_0 6 rfl rfl)
theorem dX8_empties_8 : decode cX8_empties 8 = .ok (.putfield 22, 3) := dk_181 0 22 (dk_at dksX8_empties_0 8 rfl rfl)
theorem dX8_empties_11 : decode cX8_empties 11 = .ok (.iconst 0, 1) := dk_3 (dk_at dksX8_empties_0 11 rfl rfl)
theorem dX8_empties_12 : decode cX8_empties 12 = .ok (.istore_n 1, 1) := dk_60 (dk_at dksX8_empties_0 12 rfl rfl)
theorem dX8_empties_13 : decode cX8_empties 13 = .ok (.iload_n 1, 1) := dk_27 (dk_at dksX8_empties_0 13 rfl rfl)
theorem dX8_empties_14 : decode cX8_empties 14 = .ok (.bipush 24, 2) := dk_16 24 (dk_at dksX8_empties_0 14 rfl rfl)
theorem dX8_empties_16 : decode cX8_empties 16 = .ok (.if_icmp .ge 17, 3) := dk_162 0 17 (dk_at dksX8_empties_0 16 rfl rfl)
theorem dX8_empties_19 : decode cX8_empties 19 = .ok (.aload_n 0, 1) := dk_42 (dk_at dksX8_empties_0 19 rfl rfl)
theorem dX8_empties_20 : decode cX8_empties 20 = .ok (.getfield 26, 3) := dk_180 0 26 (dk_at dksX8_empties_0 20 rfl rfl)
theorem dX8_empties_23 : decode cX8_empties 23 = .ok (.iload_n 1, 1) := dk_27 (dk_at dksX8_empties_0 23 rfl rfl)
theorem dX8_empties_24 : decode cX8_empties 24 = .ok (.bipush (-2), 2) := dk_16 254 (dk_at dksX8_empties_1 0 rfl rfl)
theorem dX8_empties_26 : decode cX8_empties 26 = .ok (.iastore, 1) := dk_79 (dk_at dksX8_empties_1 2 rfl rfl)
theorem dX8_empties_27 : decode cX8_empties 27 = .ok (.iinc 1 1, 3) := dk_132 1 1 (dk_at dksX8_empties_1 3 rfl rfl)
theorem dX8_empties_30 : decode cX8_empties 30 = .ok (.goto (-17), 3) := dk_167 255 239 (dk_at dksX8_empties_1 6 rfl rfl)
theorem dX8_empties_33 : decode cX8_empties 33 = .ok (.return_, 1) := dk_177 (dk_at dksX8_empties_1 9 rfl rfl)
abbrev cX8_comes : ByteArray := prog_11_method_20_code
def yX8_comes : MethodName := ⟨RX8, "comes", "(IIII)I"⟩
def dkwX8_comes_11 : List UInt8 := [42, 21, 6, 182, 0, 140, 21, 5, 172]
abbrev dktX8_comes_11 : List UInt8 := dkwX8_comes_11 ++ []
def dkwX8_comes_10 : List UInt8 := [21, 6, 42, 180, 0, 35, 21, 9, 46, 79, 42, 180, 0, 38, 21, 6, 42, 180, 0, 38, 21, 9, 46, 79]
abbrev dktX8_comes_10 : List UInt8 := dkwX8_comes_10 ++ dktX8_comes_11
def dkwX8_comes_9 : List UInt8 := [54, 10, 42, 180, 0, 26, 21, 6, 21, 9, 79, 42, 180, 0, 29, 21, 6, 21, 10, 79, 42, 180, 0, 35]
abbrev dktX8_comes_9 : List UInt8 := dkwX8_comes_9 ++ dktX8_comes_10
def dkwX8_comes_8 : List UInt8 := [21, 7, 182, 0, 124, 54, 9, 42, 21, 8, 153, 0, 8, 21, 7, 167, 0, 5, 21, 5, 182, 0, 124]
abbrev dktX8_comes_8 : List UInt8 := dkwX8_comes_8 ++ dktX8_comes_9
def dkwX8_comes_7 : List UInt8 := [180, 0, 13, 21, 7, 46, 21, 7, 184, 0, 136, 54, 8, 42, 21, 8, 153, 0, 8, 21, 5, 167, 0, 5]
abbrev dktX8_comes_7 : List UInt8 := dkwX8_comes_7 ++ dktX8_comes_8
def dkwX8_comes_6 : List UInt8 := [180, 0, 29, 21, 6, 46, 54, 6, 167, 255, 205, 42, 180, 0, 32, 21, 6, 46, 54, 7, 28, 21, 5, 42]
abbrev dktX8_comes_6 : List UInt8 := dkwX8_comes_6 ++ dktX8_comes_7
def dkwX8_comes_5 : List UInt8 := [42, 180, 0, 38, 21, 6, 46, 184, 0, 136, 153, 0, 13, 42, 180, 0, 26, 21, 6, 46, 167, 0, 10, 42]
abbrev dktX8_comes_5 : List UInt8 := dkwX8_comes_5 ++ dktX8_comes_6
def dkwX8_comes_4 : List UInt8 := [180, 0, 22, 54, 6, 42, 21, 6, 182, 0, 113, 154, 0, 48, 28, 21, 5, 42, 180, 0, 35, 21, 6, 46]
abbrev dktX8_comes_4 : List UInt8 := dkwX8_comes_4 ++ dktX8_comes_5
def dkwX8_comes_3 : List UInt8 := [180, 0, 22, 16, 252, 160, 0, 16, 42, 42, 21, 5, 182, 0, 124, 181, 0, 22, 21, 5, 172, 42]
abbrev dktX8_comes_3 : List UInt8 := dkwX8_comes_3 ++ dktX8_comes_4
def dkwX8_comes_2 : List UInt8 := [180, 0, 19, 21, 5, 21, 4, 79, 42, 89, 180, 0, 90, 4, 21, 5, 120, 128, 181, 0, 90, 42]
abbrev dktX8_comes_2 : List UInt8 := dkwX8_comes_2 ++ dktX8_comes_3
def dkwX8_comes_1 : List UInt8 := [180, 0, 7, 21, 5, 27, 79, 42, 180, 0, 13, 21, 5, 28, 79, 42, 180, 0, 16, 21, 5, 29, 79, 42]
abbrev dktX8_comes_1 : List UInt8 := dkwX8_comes_1 ++ dktX8_comes_2
def dkwX8_comes_0 : List UInt8 := [3, 54, 5, 42, 180, 0, 90, 21, 5, 184, 0, 97, 153, 0, 9, 132, 5, 1, 167, 255, 241, 42]
abbrev dktX8_comes_0 : List UInt8 := dkwX8_comes_0 ++ dktX8_comes_1
theorem dksX8_comes_0 : cX8_comes.data.toList.drop 0 = dktX8_comes_0 := by decide +kernel
theorem dksX8_comes_1 : cX8_comes.data.toList.drop 22 = dktX8_comes_1 := dk_seg dksX8_comes_0 22 rfl rfl
theorem dksX8_comes_2 : cX8_comes.data.toList.drop 46 = dktX8_comes_2 := dk_seg dksX8_comes_1 24 rfl rfl
theorem dksX8_comes_3 : cX8_comes.data.toList.drop 68 = dktX8_comes_3 := dk_seg dksX8_comes_2 22 rfl rfl
theorem dksX8_comes_4 : cX8_comes.data.toList.drop 90 = dktX8_comes_4 := dk_seg dksX8_comes_3 22 rfl rfl
theorem dksX8_comes_5 : cX8_comes.data.toList.drop 114 = dktX8_comes_5 := dk_seg dksX8_comes_4 24 rfl rfl
theorem dksX8_comes_6 : cX8_comes.data.toList.drop 138 = dktX8_comes_6 := dk_seg dksX8_comes_5 24 rfl rfl
theorem dksX8_comes_7 : cX8_comes.data.toList.drop 162 = dktX8_comes_7 := dk_seg dksX8_comes_6 24 rfl rfl
theorem dksX8_comes_8 : cX8_comes.data.toList.drop 186 = dktX8_comes_8 := dk_seg dksX8_comes_7 24 rfl rfl
theorem dksX8_comes_9 : cX8_comes.data.toList.drop 209 = dktX8_comes_9 := dk_seg dksX8_comes_8 23 rfl rfl
theorem dksX8_comes_10 : cX8_comes.data.toList.drop 233 = dktX8_comes_10 := dk_seg dksX8_comes_9 24 rfl rfl
theorem dksX8_comes_11 : cX8_comes.data.toList.drop 257 = dktX8_comes_11 := dk_seg dksX8_comes_10 24 rfl rfl
theorem dX8_comes_0 : decode cX8_comes 0 = .ok (.iconst 0, 1) := dk_3 (dk_at dksX8_comes_0 0 rfl rfl)
theorem dX8_comes_1 : decode cX8_comes 1 = .ok (.istore 5, 2) := dk_54 5 (dk_at dksX8_comes_0 1 rfl rfl)
theorem dX8_comes_3 : decode cX8_comes 3 = .ok (.aload_n 0, 1) := dk_42 (dk_at dksX8_comes_0 3 rfl rfl)
theorem dX8_comes_4 : decode cX8_comes 4 = .ok (.getfield 90, 3) := dk_180 0 90 (dk_at dksX8_comes_0 4 rfl rfl)
theorem dX8_comes_7 : decode cX8_comes 7 = .ok (.iload 5, 2) := dk_21 5 (dk_at dksX8_comes_0 7 rfl rfl)
theorem dX8_comes_9 : decode cX8_comes 9 = .ok (.invokestatic 97, 3) := dk_184 0 97 (dk_at dksX8_comes_0 9 rfl rfl)
theorem dX8_comes_12 : decode cX8_comes 12 = .ok (.ifCond .eq 9, 3) := dk_153 0 9 (dk_at dksX8_comes_0 12 rfl rfl)
theorem dX8_comes_15 : decode cX8_comes 15 = .ok (.iinc 5 1, 3) := dk_132 5 1 (dk_at dksX8_comes_0 15 rfl rfl)
theorem dX8_comes_18 : decode cX8_comes 18 = .ok (.goto (-15), 3) := dk_167 255 241 (dk_at dksX8_comes_0 18 rfl rfl)
theorem dX8_comes_21 : decode cX8_comes 21 = .ok (.aload_n 0, 1) := dk_42 (dk_at dksX8_comes_0 21 rfl rfl)
theorem dX8_comes_22 : decode cX8_comes 22 = .ok (.getfield 7, 3) := dk_180 0 7 (dk_at dksX8_comes_1 0 rfl rfl)
theorem dX8_comes_25 : decode cX8_comes 25 = .ok (.iload 5, 2) := dk_21 5 (dk_at dksX8_comes_1 3 rfl rfl)
theorem dX8_comes_27 : decode cX8_comes 27 = .ok (.iload_n 1, 1) := dk_27 (dk_at dksX8_comes_1 5 rfl rfl)
theorem dX8_comes_28 : decode cX8_comes 28 = .ok (.iastore, 1) := dk_79 (dk_at dksX8_comes_1 6 rfl rfl)
theorem dX8_comes_29 : decode cX8_comes 29 = .ok (.aload_n 0, 1) := dk_42 (dk_at dksX8_comes_1 7 rfl rfl)
theorem dX8_comes_30 : decode cX8_comes 30 = .ok (.getfield 13, 3) := dk_180 0 13 (dk_at dksX8_comes_1 8 rfl rfl)
theorem dX8_comes_33 : decode cX8_comes 33 = .ok (.iload 5, 2) := dk_21 5 (dk_at dksX8_comes_1 11 rfl rfl)
theorem dX8_comes_35 : decode cX8_comes 35 = .ok (.iload_n 2, 1) := dk_28 (dk_at dksX8_comes_1 13 rfl rfl)
theorem dX8_comes_36 : decode cX8_comes 36 = .ok (.iastore, 1) := dk_79 (dk_at dksX8_comes_1 14 rfl rfl)
theorem dX8_comes_37 : decode cX8_comes 37 = .ok (.aload_n 0, 1) := dk_42 (dk_at dksX8_comes_1 15 rfl rfl)
theorem dX8_comes_38 : decode cX8_comes 38 = .ok (.getfield 16, 3) := dk_180 0 16 (dk_at dksX8_comes_1 16 rfl rfl)
theorem dX8_comes_41 : decode cX8_comes 41 = .ok (.iload 5, 2) := dk_21 5 (dk_at dksX8_comes_1 19 rfl rfl)
theorem dX8_comes_43 : decode cX8_comes 43 = .ok (.iload_n 3, 1) := dk_29 (dk_at dksX8_comes_1 21 rfl rfl)
theorem dX8_comes_44 : decode cX8_comes 44 = .ok (.iastore, 1) := dk_79 (dk_at dksX8_comes_1 22 rfl rfl)
theorem dX8_comes_45 : decode cX8_comes 45 = .ok (.aload_n 0, 1) := dk_42 (dk_at dksX8_comes_1 23 rfl rfl)
theorem dX8_comes_46 : decode cX8_comes 46 = .ok (.getfield 19, 3) := dk_180 0 19 (dk_at dksX8_comes_2 0 rfl rfl)
theorem dX8_comes_49 : decode cX8_comes 49 = .ok (.iload 5, 2) := dk_21 5 (dk_at dksX8_comes_2 3 rfl rfl)
theorem dX8_comes_51 : decode cX8_comes 51 = .ok (.iload 4, 2) := dk_21 4 (dk_at dksX8_comes_2 5 rfl rfl)
theorem dX8_comes_53 : decode cX8_comes 53 = .ok (.iastore, 1) := dk_79 (dk_at dksX8_comes_2 7 rfl rfl)
theorem dX8_comes_54 : decode cX8_comes 54 = .ok (.aload_n 0, 1) := dk_42 (dk_at dksX8_comes_2 8 rfl rfl)
theorem dX8_comes_55 : decode cX8_comes 55 = .ok (.dup, 1) := dk_89 (dk_at dksX8_comes_2 9 rfl rfl)
theorem dX8_comes_56 : decode cX8_comes 56 = .ok (.getfield 90, 3) := dk_180 0 90 (dk_at dksX8_comes_2 10 rfl rfl)
theorem dX8_comes_59 : decode cX8_comes 59 = .ok (.iconst 1, 1) := dk_4 (dk_at dksX8_comes_2 13 rfl rfl)
theorem dX8_comes_60 : decode cX8_comes 60 = .ok (.iload 5, 2) := dk_21 5 (dk_at dksX8_comes_2 14 rfl rfl)
theorem dX8_comes_62 : decode cX8_comes 62 = .ok (.ishl, 1) := dk_120 (dk_at dksX8_comes_2 16 rfl rfl)
theorem dX8_comes_63 : decode cX8_comes 63 = .ok (.ior, 1) := dk_128 (dk_at dksX8_comes_2 17 rfl rfl)
theorem dX8_comes_64 : decode cX8_comes 64 = .ok (.putfield 90, 3) := dk_181 0 90 (dk_at dksX8_comes_2 18 rfl rfl)
theorem dX8_comes_67 : decode cX8_comes 67 = .ok (.aload_n 0, 1) := dk_42 (dk_at dksX8_comes_2 21 rfl rfl)
theorem dX8_comes_68 : decode cX8_comes 68 = .ok (.getfield 22, 3) := dk_180 0 22 (dk_at dksX8_comes_3 0 rfl rfl)
theorem dX8_comes_71 : decode cX8_comes 71 = .ok (.bipush (-4), 2) := dk_16 252 (dk_at dksX8_comes_3 3 rfl rfl)
theorem dX8_comes_73 : decode cX8_comes 73 = .ok (.if_icmp .ne 16, 3) := dk_160 0 16 (dk_at dksX8_comes_3 5 rfl rfl)
theorem dX8_comes_76 : decode cX8_comes 76 = .ok (.aload_n 0, 1) := dk_42 (dk_at dksX8_comes_3 8 rfl rfl)
theorem dX8_comes_77 : decode cX8_comes 77 = .ok (.aload_n 0, 1) := dk_42 (dk_at dksX8_comes_3 9 rfl rfl)
theorem dX8_comes_78 : decode cX8_comes 78 = .ok (.iload 5, 2) := dk_21 5 (dk_at dksX8_comes_3 10 rfl rfl)
theorem dX8_comes_80 : decode cX8_comes 80 = .ok (.invokevirtual 124, 3) := dk_182 0 124 (dk_at dksX8_comes_3 12 rfl rfl)
theorem dX8_comes_83 : decode cX8_comes 83 = .ok (.putfield 22, 3) := dk_181 0 22 (dk_at dksX8_comes_3 15 rfl rfl)
theorem dX8_comes_86 : decode cX8_comes 86 = .ok (.iload 5, 2) := dk_21 5 (dk_at dksX8_comes_3 18 rfl rfl)
theorem dX8_comes_88 : decode cX8_comes 88 = .ok (.ireturn, 1) := dk_172 (dk_at dksX8_comes_3 20 rfl rfl)
theorem dX8_comes_89 : decode cX8_comes 89 = .ok (.aload_n 0, 1) := dk_42 (dk_at dksX8_comes_3 21 rfl rfl)
theorem dX8_comes_90 : decode cX8_comes 90 = .ok (.getfield 22, 3) := dk_180 0 22 (dk_at dksX8_comes_4 0 rfl rfl)
theorem dX8_comes_93 : decode cX8_comes 93 = .ok (.istore 6, 2) := dk_54 6 (dk_at dksX8_comes_4 3 rfl rfl)
theorem dX8_comes_95 : decode cX8_comes 95 = .ok (.aload_n 0, 1) := dk_42 (dk_at dksX8_comes_4 5 rfl rfl)
theorem dX8_comes_96 : decode cX8_comes 96 = .ok (.iload 6, 2) := dk_21 6 (dk_at dksX8_comes_4 6 rfl rfl)
theorem dX8_comes_98 : decode cX8_comes 98 = .ok (.invokevirtual 113, 3) := dk_182 0 113 (dk_at dksX8_comes_4 8 rfl rfl)
theorem dX8_comes_101 : decode cX8_comes 101 = .ok (.ifCond .ne 48, 3) := dk_154 0 48 (dk_at dksX8_comes_4 11 rfl rfl)
theorem dX8_comes_104 : decode cX8_comes 104 = .ok (.iload_n 2, 1) := dk_28 (dk_at dksX8_comes_4 14 rfl rfl)
theorem dX8_comes_105 : decode cX8_comes 105 = .ok (.iload 5, 2) := dk_21 5 (dk_at dksX8_comes_4 15 rfl rfl)
theorem dX8_comes_107 : decode cX8_comes 107 = .ok (.aload_n 0, 1) := dk_42 (dk_at dksX8_comes_4 17 rfl rfl)
theorem dX8_comes_108 : decode cX8_comes 108 = .ok (.getfield 35, 3) := dk_180 0 35 (dk_at dksX8_comes_4 18 rfl rfl)
theorem dX8_comes_111 : decode cX8_comes 111 = .ok (.iload 6, 2) := dk_21 6 (dk_at dksX8_comes_4 21 rfl rfl)
theorem dX8_comes_113 : decode cX8_comes 113 = .ok (.iaload, 1) := dk_46 (dk_at dksX8_comes_4 23 rfl rfl)
theorem dX8_comes_114 : decode cX8_comes 114 = .ok (.aload_n 0, 1) := dk_42 (dk_at dksX8_comes_5 0 rfl rfl)
theorem dX8_comes_115 : decode cX8_comes 115 = .ok (.getfield 38, 3) := dk_180 0 38 (dk_at dksX8_comes_5 1 rfl rfl)
theorem dX8_comes_118 : decode cX8_comes 118 = .ok (.iload 6, 2) := dk_21 6 (dk_at dksX8_comes_5 4 rfl rfl)
theorem dX8_comes_120 : decode cX8_comes 120 = .ok (.iaload, 1) := dk_46 (dk_at dksX8_comes_5 6 rfl rfl)
theorem dX8_comes_121 : decode cX8_comes 121 = .ok (.invokestatic 136, 3) := dk_184 0 136 (dk_at dksX8_comes_5 7 rfl rfl)
theorem dX8_comes_124 : decode cX8_comes 124 = .ok (.ifCond .eq 13, 3) := dk_153 0 13 (dk_at dksX8_comes_5 10 rfl rfl)
theorem dX8_comes_127 : decode cX8_comes 127 = .ok (.aload_n 0, 1) := dk_42 (dk_at dksX8_comes_5 13 rfl rfl)
theorem dX8_comes_128 : decode cX8_comes 128 = .ok (.getfield 26, 3) := dk_180 0 26 (dk_at dksX8_comes_5 14 rfl rfl)
theorem dX8_comes_131 : decode cX8_comes 131 = .ok (.iload 6, 2) := dk_21 6 (dk_at dksX8_comes_5 17 rfl rfl)
theorem dX8_comes_133 : decode cX8_comes 133 = .ok (.iaload, 1) := dk_46 (dk_at dksX8_comes_5 19 rfl rfl)
theorem dX8_comes_134 : decode cX8_comes 134 = .ok (.goto 10, 3) := dk_167 0 10 (dk_at dksX8_comes_5 20 rfl rfl)
theorem dX8_comes_137 : decode cX8_comes 137 = .ok (.aload_n 0, 1) := dk_42 (dk_at dksX8_comes_5 23 rfl rfl)
theorem dX8_comes_138 : decode cX8_comes 138 = .ok (.getfield 29, 3) := dk_180 0 29 (dk_at dksX8_comes_6 0 rfl rfl)
theorem dX8_comes_141 : decode cX8_comes 141 = .ok (.iload 6, 2) := dk_21 6 (dk_at dksX8_comes_6 3 rfl rfl)
theorem dX8_comes_143 : decode cX8_comes 143 = .ok (.iaload, 1) := dk_46 (dk_at dksX8_comes_6 5 rfl rfl)
theorem dX8_comes_144 : decode cX8_comes 144 = .ok (.istore 6, 2) := dk_54 6 (dk_at dksX8_comes_6 6 rfl rfl)
theorem dX8_comes_146 : decode cX8_comes 146 = .ok (.goto (-51), 3) := dk_167 255 205 (dk_at dksX8_comes_6 8 rfl rfl)
theorem dX8_comes_149 : decode cX8_comes 149 = .ok (.aload_n 0, 1) := dk_42 (dk_at dksX8_comes_6 11 rfl rfl)
theorem dX8_comes_150 : decode cX8_comes 150 = .ok (.getfield 32, 3) := dk_180 0 32 (dk_at dksX8_comes_6 12 rfl rfl)
theorem dX8_comes_153 : decode cX8_comes 153 = .ok (.iload 6, 2) := dk_21 6 (dk_at dksX8_comes_6 15 rfl rfl)
theorem dX8_comes_155 : decode cX8_comes 155 = .ok (.iaload, 1) := dk_46 (dk_at dksX8_comes_6 17 rfl rfl)
theorem dX8_comes_156 : decode cX8_comes 156 = .ok (.istore 7, 2) := dk_54 7 (dk_at dksX8_comes_6 18 rfl rfl)
theorem dX8_comes_158 : decode cX8_comes 158 = .ok (.iload_n 2, 1) := dk_28 (dk_at dksX8_comes_6 20 rfl rfl)
theorem dX8_comes_159 : decode cX8_comes 159 = .ok (.iload 5, 2) := dk_21 5 (dk_at dksX8_comes_6 21 rfl rfl)
theorem dX8_comes_161 : decode cX8_comes 161 = .ok (.aload_n 0, 1) := dk_42 (dk_at dksX8_comes_6 23 rfl rfl)
theorem dX8_comes_162 : decode cX8_comes 162 = .ok (.getfield 13, 3) := dk_180 0 13 (dk_at dksX8_comes_7 0 rfl rfl)
theorem dX8_comes_165 : decode cX8_comes 165 = .ok (.iload 7, 2) := dk_21 7 (dk_at dksX8_comes_7 3 rfl rfl)
theorem dX8_comes_167 : decode cX8_comes 167 = .ok (.iaload, 1) := dk_46 (dk_at dksX8_comes_7 5 rfl rfl)
theorem dX8_comes_168 : decode cX8_comes 168 = .ok (.iload 7, 2) := dk_21 7 (dk_at dksX8_comes_7 6 rfl rfl)
theorem dX8_comes_170 : decode cX8_comes 170 = .ok (.invokestatic 136, 3) := dk_184 0 136 (dk_at dksX8_comes_7 8 rfl rfl)
theorem dX8_comes_173 : decode cX8_comes 173 = .ok (.istore 8, 2) := dk_54 8 (dk_at dksX8_comes_7 11 rfl rfl)
theorem dX8_comes_175 : decode cX8_comes 175 = .ok (.aload_n 0, 1) := dk_42 (dk_at dksX8_comes_7 13 rfl rfl)
theorem dX8_comes_176 : decode cX8_comes 176 = .ok (.iload 8, 2) := dk_21 8 (dk_at dksX8_comes_7 14 rfl rfl)
theorem dX8_comes_178 : decode cX8_comes 178 = .ok (.ifCond .eq 8, 3) := dk_153 0 8 (dk_at dksX8_comes_7 16 rfl rfl)
theorem dX8_comes_181 : decode cX8_comes 181 = .ok (.iload 5, 2) := dk_21 5 (dk_at dksX8_comes_7 19 rfl rfl)
theorem dX8_comes_183 : decode cX8_comes 183 = .ok (.goto 5, 3) := dk_167 0 5 (dk_at dksX8_comes_7 21 rfl rfl)
theorem dX8_comes_186 : decode cX8_comes 186 = .ok (.iload 7, 2) := dk_21 7 (dk_at dksX8_comes_8 0 rfl rfl)
theorem dX8_comes_188 : decode cX8_comes 188 = .ok (.invokevirtual 124, 3) := dk_182 0 124 (dk_at dksX8_comes_8 2 rfl rfl)
theorem dX8_comes_191 : decode cX8_comes 191 = .ok (.istore 9, 2) := dk_54 9 (dk_at dksX8_comes_8 5 rfl rfl)
theorem dX8_comes_193 : decode cX8_comes 193 = .ok (.aload_n 0, 1) := dk_42 (dk_at dksX8_comes_8 7 rfl rfl)
theorem dX8_comes_194 : decode cX8_comes 194 = .ok (.iload 8, 2) := dk_21 8 (dk_at dksX8_comes_8 8 rfl rfl)
theorem dX8_comes_196 : decode cX8_comes 196 = .ok (.ifCond .eq 8, 3) := dk_153 0 8 (dk_at dksX8_comes_8 10 rfl rfl)
theorem dX8_comes_199 : decode cX8_comes 199 = .ok (.iload 7, 2) := dk_21 7 (dk_at dksX8_comes_8 13 rfl rfl)
theorem dX8_comes_201 : decode cX8_comes 201 = .ok (.goto 5, 3) := dk_167 0 5 (dk_at dksX8_comes_8 15 rfl rfl)
theorem dX8_comes_204 : decode cX8_comes 204 = .ok (.iload 5, 2) := dk_21 5 (dk_at dksX8_comes_8 18 rfl rfl)
theorem dX8_comes_206 : decode cX8_comes 206 = .ok (.invokevirtual 124, 3) := dk_182 0 124 (dk_at dksX8_comes_8 20 rfl rfl)
theorem dX8_comes_209 : decode cX8_comes 209 = .ok (.istore 10, 2) := dk_54 10 (dk_at dksX8_comes_9 0 rfl rfl)
theorem dX8_comes_211 : decode cX8_comes 211 = .ok (.aload_n 0, 1) := dk_42 (dk_at dksX8_comes_9 2 rfl rfl)
theorem dX8_comes_212 : decode cX8_comes 212 = .ok (.getfield 26, 3) := dk_180 0 26 (dk_at dksX8_comes_9 3 rfl rfl)
theorem dX8_comes_215 : decode cX8_comes 215 = .ok (.iload 6, 2) := dk_21 6 (dk_at dksX8_comes_9 6 rfl rfl)
theorem dX8_comes_217 : decode cX8_comes 217 = .ok (.iload 9, 2) := dk_21 9 (dk_at dksX8_comes_9 8 rfl rfl)
theorem dX8_comes_219 : decode cX8_comes 219 = .ok (.iastore, 1) := dk_79 (dk_at dksX8_comes_9 10 rfl rfl)
theorem dX8_comes_220 : decode cX8_comes 220 = .ok (.aload_n 0, 1) := dk_42 (dk_at dksX8_comes_9 11 rfl rfl)
theorem dX8_comes_221 : decode cX8_comes 221 = .ok (.getfield 29, 3) := dk_180 0 29 (dk_at dksX8_comes_9 12 rfl rfl)
theorem dX8_comes_224 : decode cX8_comes 224 = .ok (.iload 6, 2) := dk_21 6 (dk_at dksX8_comes_9 15 rfl rfl)
theorem dX8_comes_226 : decode cX8_comes 226 = .ok (.iload 10, 2) := dk_21 10 (dk_at dksX8_comes_9 17 rfl rfl)
theorem dX8_comes_228 : decode cX8_comes 228 = .ok (.iastore, 1) := dk_79 (dk_at dksX8_comes_9 19 rfl rfl)
theorem dX8_comes_229 : decode cX8_comes 229 = .ok (.aload_n 0, 1) := dk_42 (dk_at dksX8_comes_9 20 rfl rfl)
theorem dX8_comes_230 : decode cX8_comes 230 = .ok (.getfield 35, 3) := dk_180 0 35 (dk_at dksX8_comes_9 21 rfl rfl)
theorem dX8_comes_233 : decode cX8_comes 233 = .ok (.iload 6, 2) := dk_21 6 (dk_at dksX8_comes_10 0 rfl rfl)
theorem dX8_comes_235 : decode cX8_comes 235 = .ok (.aload_n 0, 1) := dk_42 (dk_at dksX8_comes_10 2 rfl rfl)
theorem dX8_comes_236 : decode cX8_comes 236 = .ok (.getfield 35, 3) := dk_180 0 35 (dk_at dksX8_comes_10 3 rfl rfl)
theorem dX8_comes_239 : decode cX8_comes 239 = .ok (.iload 9, 2) := dk_21 9 (dk_at dksX8_comes_10 6 rfl rfl)
theorem dX8_comes_241 : decode cX8_comes 241 = .ok (.iaload, 1) := dk_46 (dk_at dksX8_comes_10 8 rfl rfl)
theorem dX8_comes_242 : decode cX8_comes 242 = .ok (.iastore, 1) := dk_79 (dk_at dksX8_comes_10 9 rfl rfl)
theorem dX8_comes_243 : decode cX8_comes 243 = .ok (.aload_n 0, 1) := dk_42 (dk_at dksX8_comes_10 10 rfl rfl)
theorem dX8_comes_244 : decode cX8_comes 244 = .ok (.getfield 38, 3) := dk_180 0 38 (dk_at dksX8_comes_10 11 rfl rfl)
theorem dX8_comes_247 : decode cX8_comes 247 = .ok (.iload 6, 2) := dk_21 6 (dk_at dksX8_comes_10 14 rfl rfl)
theorem dX8_comes_249 : decode cX8_comes 249 = .ok (.aload_n 0, 1) := dk_42 (dk_at dksX8_comes_10 16 rfl rfl)
theorem dX8_comes_250 : decode cX8_comes 250 = .ok (.getfield 38, 3) := dk_180 0 38 (dk_at dksX8_comes_10 17 rfl rfl)
theorem dX8_comes_253 : decode cX8_comes 253 = .ok (.iload 9, 2) := dk_21 9 (dk_at dksX8_comes_10 20 rfl rfl)
theorem dX8_comes_255 : decode cX8_comes 255 = .ok (.iaload, 1) := dk_46 (dk_at dksX8_comes_10 22 rfl rfl)
theorem dX8_comes_256 : decode cX8_comes 256 = .ok (.iastore, 1) := dk_79 (dk_at dksX8_comes_10 23 rfl rfl)
theorem dX8_comes_257 : decode cX8_comes 257 = .ok (.aload_n 0, 1) := dk_42 (dk_at dksX8_comes_11 0 rfl rfl)
theorem dX8_comes_258 : decode cX8_comes 258 = .ok (.iload 6, 2) := dk_21 6 (dk_at dksX8_comes_11 1 rfl rfl)
theorem dX8_comes_260 : decode cX8_comes 260 = .ok (.invokevirtual 140, 3) := dk_182 0 140 (dk_at dksX8_comes_11 3 rfl rfl)
theorem dX8_comes_263 : decode cX8_comes 263 = .ok (.iload 5, 2) := dk_21 5 (dk_at dksX8_comes_11 6 rfl rfl)
theorem dX8_comes_265 : decode cX8_comes 265 = .ok (.ireturn, 1) := dk_172 (dk_at dksX8_comes_11 8 rfl rfl)
abbrev cX8_has : ByteArray := prog_11_method_2_code
def yX8_has : MethodName := ⟨RX8, "has", "(II)Z"⟩
def dkwX8_has_0 : List UInt8 := [26, 27, 122, 4, 126, 4, 160, 0, 7, 4, 167, 0, 4, 3, 172]
abbrev dktX8_has_0 : List UInt8 := dkwX8_has_0 ++ []
theorem dksX8_has_0 : cX8_has.data.toList.drop 0 = dktX8_has_0 := by decide +kernel
theorem dX8_has_0 : decode cX8_has 0 = .ok (.iload_n 0, 1) := dk_26 (dk_at dksX8_has_0 0 rfl rfl)
theorem dX8_has_1 : decode cX8_has 1 = .ok (.iload_n 1, 1) := dk_27 (dk_at dksX8_has_0 1 rfl rfl)
theorem dX8_has_2 : decode cX8_has 2 = .ok (.ishr, 1) := dk_122 (dk_at dksX8_has_0 2 rfl rfl)
theorem dX8_has_3 : decode cX8_has 3 = .ok (.iconst 1, 1) := dk_4 (dk_at dksX8_has_0 3 rfl rfl)
theorem dX8_has_4 : decode cX8_has 4 = .ok (.iand, 1) := dk_126 (dk_at dksX8_has_0 4 rfl rfl)
theorem dX8_has_5 : decode cX8_has 5 = .ok (.iconst 1, 1) := dk_4 (dk_at dksX8_has_0 5 rfl rfl)
theorem dX8_has_6 : decode cX8_has 6 = .ok (.if_icmp .ne 7, 3) := dk_160 0 7 (dk_at dksX8_has_0 6 rfl rfl)
theorem dX8_has_9 : decode cX8_has 9 = .ok (.iconst 1, 1) := dk_4 (dk_at dksX8_has_0 9 rfl rfl)
theorem dX8_has_10 : decode cX8_has 10 = .ok (.goto 4, 3) := dk_167 0 4 (dk_at dksX8_has_0 10 rfl rfl)
theorem dX8_has_13 : decode cX8_has 13 = .ok (.iconst 0, 1) := dk_3 (dk_at dksX8_has_0 13 rfl rfl)
theorem dX8_has_14 : decode cX8_has 14 = .ok (.ireturn, 1) := dk_172 (dk_at dksX8_has_0 14 rfl rfl)
abbrev cX8_newLeaf : ByteArray := prog_11_method_11_code
def yX8_newLeaf : MethodName := ⟨RX8, "newLeaf", "(I)I"⟩
def dkwX8_newLeaf_1 : List UInt8 := [182, 0, 105, 28, 172]
abbrev dktX8_newLeaf_1 : List UInt8 := dkwX8_newLeaf_1 ++ []
def dkwX8_newLeaf_0 : List UInt8 := [3, 61, 42, 180, 0, 26, 28, 46, 16, 254, 159, 0, 9, 132, 2, 1, 167, 255, 242, 42, 28, 27]
abbrev dktX8_newLeaf_0 : List UInt8 := dkwX8_newLeaf_0 ++ dktX8_newLeaf_1
theorem dksX8_newLeaf_0 : cX8_newLeaf.data.toList.drop 0 = dktX8_newLeaf_0 := by decide +kernel
theorem dksX8_newLeaf_1 : cX8_newLeaf.data.toList.drop 22 = dktX8_newLeaf_1 := dk_seg dksX8_newLeaf_0 22 rfl rfl
theorem dX8_newLeaf_0 : decode cX8_newLeaf 0 = .ok (.iconst 0, 1) := dk_3 (dk_at dksX8_newLeaf_0 0 rfl rfl)
theorem dX8_newLeaf_1 : decode cX8_newLeaf 1 = .ok (.istore_n 2, 1) := dk_61 (dk_at dksX8_newLeaf_0 1 rfl rfl)
theorem dX8_newLeaf_2 : decode cX8_newLeaf 2 = .ok (.aload_n 0, 1) := dk_42 (dk_at dksX8_newLeaf_0 2 rfl rfl)
theorem dX8_newLeaf_3 : decode cX8_newLeaf 3 = .ok (.getfield 26, 3) := dk_180 0 26 (dk_at dksX8_newLeaf_0 3 rfl rfl)
theorem dX8_newLeaf_6 : decode cX8_newLeaf 6 = .ok (.iload_n 2, 1) := dk_28 (dk_at dksX8_newLeaf_0 6 rfl rfl)
theorem dX8_newLeaf_7 : decode cX8_newLeaf 7 = .ok (.iaload, 1) := dk_46 (dk_at dksX8_newLeaf_0 7 rfl rfl)
theorem dX8_newLeaf_8 : decode cX8_newLeaf 8 = .ok (.bipush (-2), 2) := dk_16 254 (dk_at dksX8_newLeaf_0 8 rfl rfl)
theorem dX8_newLeaf_10 : decode cX8_newLeaf 10 = .ok (.if_icmp .eq 9, 3) := dk_159 0 9 (dk_at dksX8_newLeaf_0 10 rfl rfl)
theorem dX8_newLeaf_13 : decode cX8_newLeaf 13 = .ok (.iinc 2 1, 3) := dk_132 2 1 (dk_at dksX8_newLeaf_0 13 rfl rfl)
theorem dX8_newLeaf_16 : decode cX8_newLeaf 16 = .ok (.goto (-14), 3) := dk_167 255 242 (dk_at dksX8_newLeaf_0 16 rfl rfl)
theorem dX8_newLeaf_19 : decode cX8_newLeaf 19 = .ok (.aload_n 0, 1) := dk_42 (dk_at dksX8_newLeaf_0 19 rfl rfl)
theorem dX8_newLeaf_20 : decode cX8_newLeaf 20 = .ok (.iload_n 2, 1) := dk_28 (dk_at dksX8_newLeaf_0 20 rfl rfl)
theorem dX8_newLeaf_21 : decode cX8_newLeaf 21 = .ok (.iload_n 1, 1) := dk_27 (dk_at dksX8_newLeaf_0 21 rfl rfl)
theorem dX8_newLeaf_22 : decode cX8_newLeaf 22 = .ok (.invokevirtual 105, 3) := dk_182 0 105 (dk_at dksX8_newLeaf_1 0 rfl rfl)
theorem dX8_newLeaf_25 : decode cX8_newLeaf 25 = .ok (.iload_n 2, 1) := dk_28 (dk_at dksX8_newLeaf_1 3 rfl rfl)
theorem dX8_newLeaf_26 : decode cX8_newLeaf 26 = .ok (.ireturn, 1) := dk_172 (dk_at dksX8_newLeaf_1 4 rfl rfl)
abbrev cX8_becomesLeaf : ByteArray := prog_11_method_12_code
def yX8_becomesLeaf : MethodName := ⟨RX8, "becomesLeaf", "(II)V"⟩
def dkwX8_becomesLeaf_1 : List UInt8 := [180, 0, 35, 27, 42, 180, 0, 13, 28, 46, 79, 42, 180, 0, 38, 27, 28, 79, 177]
abbrev dktX8_becomesLeaf_1 : List UInt8 := dkwX8_becomesLeaf_1 ++ []
def dkwX8_becomesLeaf_0 : List UInt8 := [42, 180, 0, 26, 27, 2, 79, 42, 180, 0, 29, 27, 2, 79, 42, 180, 0, 32, 27, 28, 79, 42]
abbrev dktX8_becomesLeaf_0 : List UInt8 := dkwX8_becomesLeaf_0 ++ dktX8_becomesLeaf_1
theorem dksX8_becomesLeaf_0 : cX8_becomesLeaf.data.toList.drop 0 = dktX8_becomesLeaf_0 := by decide +kernel
theorem dksX8_becomesLeaf_1 : cX8_becomesLeaf.data.toList.drop 22 = dktX8_becomesLeaf_1 := dk_seg dksX8_becomesLeaf_0 22 rfl rfl
theorem dX8_becomesLeaf_0 : decode cX8_becomesLeaf 0 = .ok (.aload_n 0, 1) := dk_42 (dk_at dksX8_becomesLeaf_0 0 rfl rfl)
theorem dX8_becomesLeaf_1 : decode cX8_becomesLeaf 1 = .ok (.getfield 26, 3) := dk_180 0 26 (dk_at dksX8_becomesLeaf_0 1 rfl rfl)
theorem dX8_becomesLeaf_4 : decode cX8_becomesLeaf 4 = .ok (.iload_n 1, 1) := dk_27 (dk_at dksX8_becomesLeaf_0 4 rfl rfl)
theorem dX8_becomesLeaf_5 : decode cX8_becomesLeaf 5 = .ok (.iconst (-1), 1) := dk_2 (dk_at dksX8_becomesLeaf_0 5 rfl rfl)
theorem dX8_becomesLeaf_6 : decode cX8_becomesLeaf 6 = .ok (.iastore, 1) := dk_79 (dk_at dksX8_becomesLeaf_0 6 rfl rfl)
theorem dX8_becomesLeaf_7 : decode cX8_becomesLeaf 7 = .ok (.aload_n 0, 1) := dk_42 (dk_at dksX8_becomesLeaf_0 7 rfl rfl)
theorem dX8_becomesLeaf_8 : decode cX8_becomesLeaf 8 = .ok (.getfield 29, 3) := dk_180 0 29 (dk_at dksX8_becomesLeaf_0 8 rfl rfl)
theorem dX8_becomesLeaf_11 : decode cX8_becomesLeaf 11 = .ok (.iload_n 1, 1) := dk_27 (dk_at dksX8_becomesLeaf_0 11 rfl rfl)
theorem dX8_becomesLeaf_12 : decode cX8_becomesLeaf 12 = .ok (.iconst (-1), 1) := dk_2 (dk_at dksX8_becomesLeaf_0 12 rfl rfl)
theorem dX8_becomesLeaf_13 : decode cX8_becomesLeaf 13 = .ok (.iastore, 1) := dk_79 (dk_at dksX8_becomesLeaf_0 13 rfl rfl)
theorem dX8_becomesLeaf_14 : decode cX8_becomesLeaf 14 = .ok (.aload_n 0, 1) := dk_42 (dk_at dksX8_becomesLeaf_0 14 rfl rfl)
theorem dX8_becomesLeaf_15 : decode cX8_becomesLeaf 15 = .ok (.getfield 32, 3) := dk_180 0 32 (dk_at dksX8_becomesLeaf_0 15 rfl rfl)
theorem dX8_becomesLeaf_18 : decode cX8_becomesLeaf 18 = .ok (.iload_n 1, 1) := dk_27 (dk_at dksX8_becomesLeaf_0 18 rfl rfl)
theorem dX8_becomesLeaf_19 : decode cX8_becomesLeaf 19 = .ok (.iload_n 2, 1) := dk_28 (dk_at dksX8_becomesLeaf_0 19 rfl rfl)
theorem dX8_becomesLeaf_20 : decode cX8_becomesLeaf 20 = .ok (.iastore, 1) := dk_79 (dk_at dksX8_becomesLeaf_0 20 rfl rfl)
theorem dX8_becomesLeaf_21 : decode cX8_becomesLeaf 21 = .ok (.aload_n 0, 1) := dk_42 (dk_at dksX8_becomesLeaf_0 21 rfl rfl)
theorem dX8_becomesLeaf_22 : decode cX8_becomesLeaf 22 = .ok (.getfield 35, 3) := dk_180 0 35 (dk_at dksX8_becomesLeaf_1 0 rfl rfl)
theorem dX8_becomesLeaf_25 : decode cX8_becomesLeaf 25 = .ok (.iload_n 1, 1) := dk_27 (dk_at dksX8_becomesLeaf_1 3 rfl rfl)
theorem dX8_becomesLeaf_26 : decode cX8_becomesLeaf 26 = .ok (.aload_n 0, 1) := dk_42 (dk_at dksX8_becomesLeaf_1 4 rfl rfl)
theorem dX8_becomesLeaf_27 : decode cX8_becomesLeaf 27 = .ok (.getfield 13, 3) := dk_180 0 13 (dk_at dksX8_becomesLeaf_1 5 rfl rfl)
theorem dX8_becomesLeaf_30 : decode cX8_becomesLeaf 30 = .ok (.iload_n 2, 1) := dk_28 (dk_at dksX8_becomesLeaf_1 8 rfl rfl)
theorem dX8_becomesLeaf_31 : decode cX8_becomesLeaf 31 = .ok (.iaload, 1) := dk_46 (dk_at dksX8_becomesLeaf_1 9 rfl rfl)
theorem dX8_becomesLeaf_32 : decode cX8_becomesLeaf 32 = .ok (.iastore, 1) := dk_79 (dk_at dksX8_becomesLeaf_1 10 rfl rfl)
theorem dX8_becomesLeaf_33 : decode cX8_becomesLeaf 33 = .ok (.aload_n 0, 1) := dk_42 (dk_at dksX8_becomesLeaf_1 11 rfl rfl)
theorem dX8_becomesLeaf_34 : decode cX8_becomesLeaf 34 = .ok (.getfield 38, 3) := dk_180 0 38 (dk_at dksX8_becomesLeaf_1 12 rfl rfl)
theorem dX8_becomesLeaf_37 : decode cX8_becomesLeaf 37 = .ok (.iload_n 1, 1) := dk_27 (dk_at dksX8_becomesLeaf_1 15 rfl rfl)
theorem dX8_becomesLeaf_38 : decode cX8_becomesLeaf 38 = .ok (.iload_n 2, 1) := dk_28 (dk_at dksX8_becomesLeaf_1 16 rfl rfl)
theorem dX8_becomesLeaf_39 : decode cX8_becomesLeaf 39 = .ok (.iastore, 1) := dk_79 (dk_at dksX8_becomesLeaf_1 17 rfl rfl)
theorem dX8_becomesLeaf_40 : decode cX8_becomesLeaf 40 = .ok (.return_, 1) := dk_177 (dk_at dksX8_becomesLeaf_1 18 rfl rfl)
abbrev cX8_isLeaf : ByteArray := prog_11_method_10_code
def yX8_isLeaf : MethodName := ⟨RX8, "isLeaf", "(I)Z"⟩
def dkwX8_isLeaf_0 : List UInt8 := [42, 180, 0, 26, 27, 46, 2, 160, 0, 7, 4, 167, 0, 4, 3, 172]
abbrev dktX8_isLeaf_0 : List UInt8 := dkwX8_isLeaf_0 ++ []
theorem dksX8_isLeaf_0 : cX8_isLeaf.data.toList.drop 0 = dktX8_isLeaf_0 := by decide +kernel
theorem dX8_isLeaf_0 : decode cX8_isLeaf 0 = .ok (.aload_n 0, 1) := dk_42 (dk_at dksX8_isLeaf_0 0 rfl rfl)
theorem dX8_isLeaf_1 : decode cX8_isLeaf 1 = .ok (.getfield 26, 3) := dk_180 0 26 (dk_at dksX8_isLeaf_0 1 rfl rfl)
theorem dX8_isLeaf_4 : decode cX8_isLeaf 4 = .ok (.iload_n 1, 1) := dk_27 (dk_at dksX8_isLeaf_0 4 rfl rfl)
theorem dX8_isLeaf_5 : decode cX8_isLeaf 5 = .ok (.iaload, 1) := dk_46 (dk_at dksX8_isLeaf_0 5 rfl rfl)
theorem dX8_isLeaf_6 : decode cX8_isLeaf 6 = .ok (.iconst (-1), 1) := dk_2 (dk_at dksX8_isLeaf_0 6 rfl rfl)
theorem dX8_isLeaf_7 : decode cX8_isLeaf 7 = .ok (.if_icmp .ne 7, 3) := dk_160 0 7 (dk_at dksX8_isLeaf_0 7 rfl rfl)
theorem dX8_isLeaf_10 : decode cX8_isLeaf 10 = .ok (.iconst 1, 1) := dk_4 (dk_at dksX8_isLeaf_0 10 rfl rfl)
theorem dX8_isLeaf_11 : decode cX8_isLeaf 11 = .ok (.goto 4, 3) := dk_167 0 4 (dk_at dksX8_isLeaf_0 11 rfl rfl)
theorem dX8_isLeaf_14 : decode cX8_isLeaf 14 = .ok (.iconst 0, 1) := dk_3 (dk_at dksX8_isLeaf_0 14 rfl rfl)
theorem dX8_isLeaf_15 : decode cX8_isLeaf 15 = .ok (.ireturn, 1) := dk_172 (dk_at dksX8_isLeaf_0 15 rfl rfl)
abbrev cX8_isLeft : ByteArray := prog_11_method_9_code
def yX8_isLeft : MethodName := ⟨RX8, "isLeft", "(IIII)Z"⟩
def dkwX8_isLeft_0 : List UInt8 := [26, 28, 161, 0, 13, 26, 28, 160, 0, 12, 27, 29, 163, 0, 7, 4, 167, 0, 4, 3, 172]
abbrev dktX8_isLeft_0 : List UInt8 := dkwX8_isLeft_0 ++ []
theorem dksX8_isLeft_0 : cX8_isLeft.data.toList.drop 0 = dktX8_isLeft_0 := by decide +kernel
theorem dX8_isLeft_0 : decode cX8_isLeft 0 = .ok (.iload_n 0, 1) := dk_26 (dk_at dksX8_isLeft_0 0 rfl rfl)
theorem dX8_isLeft_1 : decode cX8_isLeft 1 = .ok (.iload_n 2, 1) := dk_28 (dk_at dksX8_isLeft_0 1 rfl rfl)
theorem dX8_isLeft_2 : decode cX8_isLeft 2 = .ok (.if_icmp .lt 13, 3) := dk_161 0 13 (dk_at dksX8_isLeft_0 2 rfl rfl)
theorem dX8_isLeft_5 : decode cX8_isLeft 5 = .ok (.iload_n 0, 1) := dk_26 (dk_at dksX8_isLeft_0 5 rfl rfl)
theorem dX8_isLeft_6 : decode cX8_isLeft 6 = .ok (.iload_n 2, 1) := dk_28 (dk_at dksX8_isLeft_0 6 rfl rfl)
theorem dX8_isLeft_7 : decode cX8_isLeft 7 = .ok (.if_icmp .ne 12, 3) := dk_160 0 12 (dk_at dksX8_isLeft_0 7 rfl rfl)
theorem dX8_isLeft_10 : decode cX8_isLeft 10 = .ok (.iload_n 1, 1) := dk_27 (dk_at dksX8_isLeft_0 10 rfl rfl)
theorem dX8_isLeft_11 : decode cX8_isLeft 11 = .ok (.iload_n 3, 1) := dk_29 (dk_at dksX8_isLeft_0 11 rfl rfl)
theorem dX8_isLeft_12 : decode cX8_isLeft 12 = .ok (.if_icmp .gt 7, 3) := dk_163 0 7 (dk_at dksX8_isLeft_0 12 rfl rfl)
theorem dX8_isLeft_15 : decode cX8_isLeft 15 = .ok (.iconst 1, 1) := dk_4 (dk_at dksX8_isLeft_0 15 rfl rfl)
theorem dX8_isLeft_16 : decode cX8_isLeft 16 = .ok (.goto 4, 3) := dk_167 0 4 (dk_at dksX8_isLeft_0 16 rfl rfl)
theorem dX8_isLeft_19 : decode cX8_isLeft 19 = .ok (.iconst 0, 1) := dk_3 (dk_at dksX8_isLeft_0 19 rfl rfl)
theorem dX8_isLeft_20 : decode cX8_isLeft 20 = .ok (.ireturn, 1) := dk_172 (dk_at dksX8_isLeft_0 20 rfl rfl)
abbrev cX8_settles : ByteArray := prog_11_method_19_code
def yX8_settles : MethodName := ⟨RX8, "settles", "(I)V"⟩
def dkwX8_settles_2 : List UInt8 := [182, 0, 130, 42, 89, 180, 0, 133, 4, 96, 181, 0, 133, 177]
abbrev dktX8_settles_2 : List UInt8 := dkwX8_settles_2 ++ []
def dkwX8_settles_1 : List UInt8 := [167, 0, 4, 28, 61, 42, 29, 182, 0, 109, 62, 167, 255, 230, 28, 16, 252, 159, 0, 18, 42, 28]
abbrev dktX8_settles_1 : List UInt8 := dkwX8_settles_1 ++ dktX8_settles_2
def dkwX8_settles_0 : List UInt8 := [16, 252, 61, 42, 27, 182, 0, 109, 62, 29, 16, 252, 159, 0, 26, 42, 29, 182, 0, 127, 153, 0, 7, 29]
abbrev dktX8_settles_0 : List UInt8 := dkwX8_settles_0 ++ dktX8_settles_1
theorem dksX8_settles_0 : cX8_settles.data.toList.drop 0 = dktX8_settles_0 := by decide +kernel
theorem dksX8_settles_1 : cX8_settles.data.toList.drop 24 = dktX8_settles_1 := dk_seg dksX8_settles_0 24 rfl rfl
theorem dksX8_settles_2 : cX8_settles.data.toList.drop 46 = dktX8_settles_2 := dk_seg dksX8_settles_1 22 rfl rfl
theorem dX8_settles_0 : decode cX8_settles 0 = .ok (.bipush (-4), 2) := dk_16 252 (dk_at dksX8_settles_0 0 rfl rfl)
theorem dX8_settles_2 : decode cX8_settles 2 = .ok (.istore_n 2, 1) := dk_61 (dk_at dksX8_settles_0 2 rfl rfl)
theorem dX8_settles_3 : decode cX8_settles 3 = .ok (.aload_n 0, 1) := dk_42 (dk_at dksX8_settles_0 3 rfl rfl)
theorem dX8_settles_4 : decode cX8_settles 4 = .ok (.iload_n 1, 1) := dk_27 (dk_at dksX8_settles_0 4 rfl rfl)
theorem dX8_settles_5 : decode cX8_settles 5 = .ok (.invokevirtual 109, 3) := dk_182 0 109 (dk_at dksX8_settles_0 5 rfl rfl)
theorem dX8_settles_8 : decode cX8_settles 8 = .ok (.istore_n 3, 1) := dk_62 (dk_at dksX8_settles_0 8 rfl rfl)
theorem dX8_settles_9 : decode cX8_settles 9 = .ok (.iload_n 3, 1) := dk_29 (dk_at dksX8_settles_0 9 rfl rfl)
theorem dX8_settles_10 : decode cX8_settles 10 = .ok (.bipush (-4), 2) := dk_16 252 (dk_at dksX8_settles_0 10 rfl rfl)
theorem dX8_settles_12 : decode cX8_settles 12 = .ok (.if_icmp .eq 26, 3) := dk_159 0 26 (dk_at dksX8_settles_0 12 rfl rfl)
theorem dX8_settles_15 : decode cX8_settles 15 = .ok (.aload_n 0, 1) := dk_42 (dk_at dksX8_settles_0 15 rfl rfl)
theorem dX8_settles_16 : decode cX8_settles 16 = .ok (.iload_n 3, 1) := dk_29 (dk_at dksX8_settles_0 16 rfl rfl)
theorem dX8_settles_17 : decode cX8_settles 17 = .ok (.invokevirtual 127, 3) := dk_182 0 127 (dk_at dksX8_settles_0 17 rfl rfl)
theorem dX8_settles_20 : decode cX8_settles 20 = .ok (.ifCond .eq 7, 3) := dk_153 0 7 (dk_at dksX8_settles_0 20 rfl rfl)
theorem dX8_settles_23 : decode cX8_settles 23 = .ok (.iload_n 3, 1) := dk_29 (dk_at dksX8_settles_0 23 rfl rfl)
theorem dX8_settles_24 : decode cX8_settles 24 = .ok (.goto 4, 3) := dk_167 0 4 (dk_at dksX8_settles_1 0 rfl rfl)
theorem dX8_settles_27 : decode cX8_settles 27 = .ok (.iload_n 2, 1) := dk_28 (dk_at dksX8_settles_1 3 rfl rfl)
theorem dX8_settles_28 : decode cX8_settles 28 = .ok (.istore_n 2, 1) := dk_61 (dk_at dksX8_settles_1 4 rfl rfl)
theorem dX8_settles_29 : decode cX8_settles 29 = .ok (.aload_n 0, 1) := dk_42 (dk_at dksX8_settles_1 5 rfl rfl)
theorem dX8_settles_30 : decode cX8_settles 30 = .ok (.iload_n 3, 1) := dk_29 (dk_at dksX8_settles_1 6 rfl rfl)
theorem dX8_settles_31 : decode cX8_settles 31 = .ok (.invokevirtual 109, 3) := dk_182 0 109 (dk_at dksX8_settles_1 7 rfl rfl)
theorem dX8_settles_34 : decode cX8_settles 34 = .ok (.istore_n 3, 1) := dk_62 (dk_at dksX8_settles_1 10 rfl rfl)
theorem dX8_settles_35 : decode cX8_settles 35 = .ok (.goto (-26), 3) := dk_167 255 230 (dk_at dksX8_settles_1 11 rfl rfl)
theorem dX8_settles_38 : decode cX8_settles 38 = .ok (.iload_n 2, 1) := dk_28 (dk_at dksX8_settles_1 14 rfl rfl)
theorem dX8_settles_39 : decode cX8_settles 39 = .ok (.bipush (-4), 2) := dk_16 252 (dk_at dksX8_settles_1 15 rfl rfl)
theorem dX8_settles_41 : decode cX8_settles 41 = .ok (.if_icmp .eq 18, 3) := dk_159 0 18 (dk_at dksX8_settles_1 17 rfl rfl)
theorem dX8_settles_44 : decode cX8_settles 44 = .ok (.aload_n 0, 1) := dk_42 (dk_at dksX8_settles_1 20 rfl rfl)
theorem dX8_settles_45 : decode cX8_settles 45 = .ok (.iload_n 2, 1) := dk_28 (dk_at dksX8_settles_1 21 rfl rfl)
theorem dX8_settles_46 : decode cX8_settles 46 = .ok (.invokevirtual 130, 3) := dk_182 0 130 (dk_at dksX8_settles_2 0 rfl rfl)
theorem dX8_settles_49 : decode cX8_settles 49 = .ok (.aload_n 0, 1) := dk_42 (dk_at dksX8_settles_2 3 rfl rfl)
theorem dX8_settles_50 : decode cX8_settles 50 = .ok (.dup, 1) := dk_89 (dk_at dksX8_settles_2 4 rfl rfl)
theorem dX8_settles_51 : decode cX8_settles 51 = .ok (.getfield 133, 3) := dk_180 0 133 (dk_at dksX8_settles_2 5 rfl rfl)
theorem dX8_settles_54 : decode cX8_settles 54 = .ok (.iconst 1, 1) := dk_4 (dk_at dksX8_settles_2 8 rfl rfl)
theorem dX8_settles_55 : decode cX8_settles 55 = .ok (.iadd, 1) := dk_96 (dk_at dksX8_settles_2 9 rfl rfl)
theorem dX8_settles_56 : decode cX8_settles 56 = .ok (.putfield 133, 3) := dk_181 0 133 (dk_at dksX8_settles_2 10 rfl rfl)
theorem dX8_settles_59 : decode cX8_settles 59 = .ok (.return_, 1) := dk_177 (dk_at dksX8_settles_2 13 rfl rfl)
abbrev cX8_aboveOf : ByteArray := prog_11_method_13_code
def yX8_aboveOf : MethodName := ⟨RX8, "aboveOf", "(I)I"⟩
def dkwX8_aboveOf_2 : List UInt8 := [132, 3, 1, 167, 255, 212, 28, 172]
abbrev dktX8_aboveOf_2 : List UInt8 := dkwX8_aboveOf_2 ++ []
def dkwX8_aboveOf_1 : List UInt8 := [29, 46, 27, 159, 0, 13, 42, 180, 0, 29, 29, 46, 27, 160, 0, 7, 29, 167, 0, 4, 28, 61]
abbrev dktX8_aboveOf_1 : List UInt8 := dkwX8_aboveOf_1 ++ dktX8_aboveOf_2
def dkwX8_aboveOf_0 : List UInt8 := [16, 252, 61, 3, 62, 29, 16, 24, 162, 0, 44, 42, 180, 0, 26, 29, 46, 155, 0, 27, 42, 180, 0, 26]
abbrev dktX8_aboveOf_0 : List UInt8 := dkwX8_aboveOf_0 ++ dktX8_aboveOf_1
theorem dksX8_aboveOf_0 : cX8_aboveOf.data.toList.drop 0 = dktX8_aboveOf_0 := by decide +kernel
theorem dksX8_aboveOf_1 : cX8_aboveOf.data.toList.drop 24 = dktX8_aboveOf_1 := dk_seg dksX8_aboveOf_0 24 rfl rfl
theorem dksX8_aboveOf_2 : cX8_aboveOf.data.toList.drop 46 = dktX8_aboveOf_2 := dk_seg dksX8_aboveOf_1 22 rfl rfl
theorem dX8_aboveOf_0 : decode cX8_aboveOf 0 = .ok (.bipush (-4), 2) := dk_16 252 (dk_at dksX8_aboveOf_0 0 rfl rfl)
theorem dX8_aboveOf_2 : decode cX8_aboveOf 2 = .ok (.istore_n 2, 1) := dk_61 (dk_at dksX8_aboveOf_0 2 rfl rfl)
theorem dX8_aboveOf_3 : decode cX8_aboveOf 3 = .ok (.iconst 0, 1) := dk_3 (dk_at dksX8_aboveOf_0 3 rfl rfl)
theorem dX8_aboveOf_4 : decode cX8_aboveOf 4 = .ok (.istore_n 3, 1) := dk_62 (dk_at dksX8_aboveOf_0 4 rfl rfl)
theorem dX8_aboveOf_5 : decode cX8_aboveOf 5 = .ok (.iload_n 3, 1) := dk_29 (dk_at dksX8_aboveOf_0 5 rfl rfl)
theorem dX8_aboveOf_6 : decode cX8_aboveOf 6 = .ok (.bipush 24, 2) := dk_16 24 (dk_at dksX8_aboveOf_0 6 rfl rfl)
theorem dX8_aboveOf_8 : decode cX8_aboveOf 8 = .ok (.if_icmp .ge 44, 3) := dk_162 0 44 (dk_at dksX8_aboveOf_0 8 rfl rfl)
theorem dX8_aboveOf_11 : decode cX8_aboveOf 11 = .ok (.aload_n 0, 1) := dk_42 (dk_at dksX8_aboveOf_0 11 rfl rfl)
theorem dX8_aboveOf_12 : decode cX8_aboveOf 12 = .ok (.getfield 26, 3) := dk_180 0 26 (dk_at dksX8_aboveOf_0 12 rfl rfl)
theorem dX8_aboveOf_15 : decode cX8_aboveOf 15 = .ok (.iload_n 3, 1) := dk_29 (dk_at dksX8_aboveOf_0 15 rfl rfl)
theorem dX8_aboveOf_16 : decode cX8_aboveOf 16 = .ok (.iaload, 1) := dk_46 (dk_at dksX8_aboveOf_0 16 rfl rfl)
theorem dX8_aboveOf_17 : decode cX8_aboveOf 17 = .ok (.ifCond .lt 27, 3) := dk_155 0 27 (dk_at dksX8_aboveOf_0 17 rfl rfl)
theorem dX8_aboveOf_20 : decode cX8_aboveOf 20 = .ok (.aload_n 0, 1) := dk_42 (dk_at dksX8_aboveOf_0 20 rfl rfl)
theorem dX8_aboveOf_21 : decode cX8_aboveOf 21 = .ok (.getfield 26, 3) := dk_180 0 26 (dk_at dksX8_aboveOf_0 21 rfl rfl)
theorem dX8_aboveOf_24 : decode cX8_aboveOf 24 = .ok (.iload_n 3, 1) := dk_29 (dk_at dksX8_aboveOf_1 0 rfl rfl)
theorem dX8_aboveOf_25 : decode cX8_aboveOf 25 = .ok (.iaload, 1) := dk_46 (dk_at dksX8_aboveOf_1 1 rfl rfl)
theorem dX8_aboveOf_26 : decode cX8_aboveOf 26 = .ok (.iload_n 1, 1) := dk_27 (dk_at dksX8_aboveOf_1 2 rfl rfl)
theorem dX8_aboveOf_27 : decode cX8_aboveOf 27 = .ok (.if_icmp .eq 13, 3) := dk_159 0 13 (dk_at dksX8_aboveOf_1 3 rfl rfl)
theorem dX8_aboveOf_30 : decode cX8_aboveOf 30 = .ok (.aload_n 0, 1) := dk_42 (dk_at dksX8_aboveOf_1 6 rfl rfl)
theorem dX8_aboveOf_31 : decode cX8_aboveOf 31 = .ok (.getfield 29, 3) := dk_180 0 29 (dk_at dksX8_aboveOf_1 7 rfl rfl)
theorem dX8_aboveOf_34 : decode cX8_aboveOf 34 = .ok (.iload_n 3, 1) := dk_29 (dk_at dksX8_aboveOf_1 10 rfl rfl)
theorem dX8_aboveOf_35 : decode cX8_aboveOf 35 = .ok (.iaload, 1) := dk_46 (dk_at dksX8_aboveOf_1 11 rfl rfl)
theorem dX8_aboveOf_36 : decode cX8_aboveOf 36 = .ok (.iload_n 1, 1) := dk_27 (dk_at dksX8_aboveOf_1 12 rfl rfl)
theorem dX8_aboveOf_37 : decode cX8_aboveOf 37 = .ok (.if_icmp .ne 7, 3) := dk_160 0 7 (dk_at dksX8_aboveOf_1 13 rfl rfl)
theorem dX8_aboveOf_40 : decode cX8_aboveOf 40 = .ok (.iload_n 3, 1) := dk_29 (dk_at dksX8_aboveOf_1 16 rfl rfl)
theorem dX8_aboveOf_41 : decode cX8_aboveOf 41 = .ok (.goto 4, 3) := dk_167 0 4 (dk_at dksX8_aboveOf_1 17 rfl rfl)
theorem dX8_aboveOf_44 : decode cX8_aboveOf 44 = .ok (.iload_n 2, 1) := dk_28 (dk_at dksX8_aboveOf_1 20 rfl rfl)
theorem dX8_aboveOf_45 : decode cX8_aboveOf 45 = .ok (.istore_n 2, 1) := dk_61 (dk_at dksX8_aboveOf_1 21 rfl rfl)
theorem dX8_aboveOf_46 : decode cX8_aboveOf 46 = .ok (.iinc 3 1, 3) := dk_132 3 1 (dk_at dksX8_aboveOf_2 0 rfl rfl)
theorem dX8_aboveOf_49 : decode cX8_aboveOf 49 = .ok (.goto (-44), 3) := dk_167 255 212 (dk_at dksX8_aboveOf_2 3 rfl rfl)
theorem dX8_aboveOf_52 : decode cX8_aboveOf 52 = .ok (.iload_n 2, 1) := dk_28 (dk_at dksX8_aboveOf_2 6 rfl rfl)
theorem dX8_aboveOf_53 : decode cX8_aboveOf 53 = .ok (.ireturn, 1) := dk_172 (dk_at dksX8_aboveOf_2 7 rfl rfl)
abbrev cX8_leans : ByteArray := prog_11_method_18_code
def yX8_leans : MethodName := ⟨RX8, "leans", "(I)Z"⟩
def dkwX8_leans_1 : List UInt8 := [29, 104, 4, 96, 163, 0, 12, 29, 5, 28, 104, 4, 96, 164, 0, 7, 4, 167, 0, 4, 3, 172]
abbrev dktX8_leans_1 : List UInt8 := dkwX8_leans_1 ++ []
def dkwX8_leans_0 : List UInt8 := [42, 42, 180, 0, 26, 27, 46, 182, 0, 117, 61, 42, 42, 180, 0, 29, 27, 46, 182, 0, 117, 62, 28, 5]
abbrev dktX8_leans_0 : List UInt8 := dkwX8_leans_0 ++ dktX8_leans_1
theorem dksX8_leans_0 : cX8_leans.data.toList.drop 0 = dktX8_leans_0 := by decide +kernel
theorem dksX8_leans_1 : cX8_leans.data.toList.drop 24 = dktX8_leans_1 := dk_seg dksX8_leans_0 24 rfl rfl
theorem dX8_leans_0 : decode cX8_leans 0 = .ok (.aload_n 0, 1) := dk_42 (dk_at dksX8_leans_0 0 rfl rfl)
theorem dX8_leans_1 : decode cX8_leans 1 = .ok (.aload_n 0, 1) := dk_42 (dk_at dksX8_leans_0 1 rfl rfl)
theorem dX8_leans_2 : decode cX8_leans 2 = .ok (.getfield 26, 3) := dk_180 0 26 (dk_at dksX8_leans_0 2 rfl rfl)
theorem dX8_leans_5 : decode cX8_leans 5 = .ok (.iload_n 1, 1) := dk_27 (dk_at dksX8_leans_0 5 rfl rfl)
theorem dX8_leans_6 : decode cX8_leans 6 = .ok (.iaload, 1) := dk_46 (dk_at dksX8_leans_0 6 rfl rfl)
theorem dX8_leans_7 : decode cX8_leans 7 = .ok (.invokevirtual 117, 3) := dk_182 0 117 (dk_at dksX8_leans_0 7 rfl rfl)
theorem dX8_leans_10 : decode cX8_leans 10 = .ok (.istore_n 2, 1) := dk_61 (dk_at dksX8_leans_0 10 rfl rfl)
theorem dX8_leans_11 : decode cX8_leans 11 = .ok (.aload_n 0, 1) := dk_42 (dk_at dksX8_leans_0 11 rfl rfl)
theorem dX8_leans_12 : decode cX8_leans 12 = .ok (.aload_n 0, 1) := dk_42 (dk_at dksX8_leans_0 12 rfl rfl)
theorem dX8_leans_13 : decode cX8_leans 13 = .ok (.getfield 29, 3) := dk_180 0 29 (dk_at dksX8_leans_0 13 rfl rfl)
theorem dX8_leans_16 : decode cX8_leans 16 = .ok (.iload_n 1, 1) := dk_27 (dk_at dksX8_leans_0 16 rfl rfl)
theorem dX8_leans_17 : decode cX8_leans 17 = .ok (.iaload, 1) := dk_46 (dk_at dksX8_leans_0 17 rfl rfl)
theorem dX8_leans_18 : decode cX8_leans 18 = .ok (.invokevirtual 117, 3) := dk_182 0 117 (dk_at dksX8_leans_0 18 rfl rfl)
theorem dX8_leans_21 : decode cX8_leans 21 = .ok (.istore_n 3, 1) := dk_62 (dk_at dksX8_leans_0 21 rfl rfl)
theorem dX8_leans_22 : decode cX8_leans 22 = .ok (.iload_n 2, 1) := dk_28 (dk_at dksX8_leans_0 22 rfl rfl)
theorem dX8_leans_23 : decode cX8_leans 23 = .ok (.iconst 2, 1) := dk_5 (dk_at dksX8_leans_0 23 rfl rfl)
theorem dX8_leans_24 : decode cX8_leans 24 = .ok (.iload_n 3, 1) := dk_29 (dk_at dksX8_leans_1 0 rfl rfl)
theorem dX8_leans_25 : decode cX8_leans 25 = .ok (.imul, 1) := dk_104 (dk_at dksX8_leans_1 1 rfl rfl)
theorem dX8_leans_26 : decode cX8_leans 26 = .ok (.iconst 1, 1) := dk_4 (dk_at dksX8_leans_1 2 rfl rfl)
theorem dX8_leans_27 : decode cX8_leans 27 = .ok (.iadd, 1) := dk_96 (dk_at dksX8_leans_1 3 rfl rfl)
theorem dX8_leans_28 : decode cX8_leans 28 = .ok (.if_icmp .gt 12, 3) := dk_163 0 12 (dk_at dksX8_leans_1 4 rfl rfl)
theorem dX8_leans_31 : decode cX8_leans 31 = .ok (.iload_n 3, 1) := dk_29 (dk_at dksX8_leans_1 7 rfl rfl)
theorem dX8_leans_32 : decode cX8_leans 32 = .ok (.iconst 2, 1) := dk_5 (dk_at dksX8_leans_1 8 rfl rfl)
theorem dX8_leans_33 : decode cX8_leans 33 = .ok (.iload_n 2, 1) := dk_28 (dk_at dksX8_leans_1 9 rfl rfl)
theorem dX8_leans_34 : decode cX8_leans 34 = .ok (.imul, 1) := dk_104 (dk_at dksX8_leans_1 10 rfl rfl)
theorem dX8_leans_35 : decode cX8_leans 35 = .ok (.iconst 1, 1) := dk_4 (dk_at dksX8_leans_1 11 rfl rfl)
theorem dX8_leans_36 : decode cX8_leans 36 = .ok (.iadd, 1) := dk_96 (dk_at dksX8_leans_1 12 rfl rfl)
theorem dX8_leans_37 : decode cX8_leans 37 = .ok (.if_icmp .le 7, 3) := dk_164 0 7 (dk_at dksX8_leans_1 13 rfl rfl)
theorem dX8_leans_40 : decode cX8_leans 40 = .ok (.iconst 1, 1) := dk_4 (dk_at dksX8_leans_1 16 rfl rfl)
theorem dX8_leans_41 : decode cX8_leans 41 = .ok (.goto 4, 3) := dk_167 0 4 (dk_at dksX8_leans_1 17 rfl rfl)
theorem dX8_leans_44 : decode cX8_leans 44 = .ok (.iconst 0, 1) := dk_3 (dk_at dksX8_leans_1 20 rfl rfl)
theorem dX8_leans_45 : decode cX8_leans 45 = .ok (.ireturn, 1) := dk_172 (dk_at dksX8_leans_1 21 rfl rfl)
abbrev cX8_leaves : ByteArray := prog_11_method_15_code
def yX8_leaves : MethodName := ⟨RX8, "leaves", "(I)I"⟩
def dkwX8_leaves_3 : List UInt8 := [4, 96, 42, 180, 0, 26, 21, 4, 46, 79, 132, 3, 2, 167, 255, 182, 28, 172]
abbrev dktX8_leaves_3 : List UInt8 := dkwX8_leaves_3 ++ []
def dkwX8_leaves_2 : List UInt8 := [132, 2, 1, 167, 0, 34, 42, 180, 0, 41, 29, 42, 180, 0, 29, 21, 4, 46, 79, 42, 180, 0, 41, 29]
abbrev dktX8_leaves_2 : List UInt8 := dkwX8_leaves_2 ++ dktX8_leaves_3
def dkwX8_leaves_1 : List UInt8 := [54, 4, 42, 21, 4, 182, 0, 113, 153, 0, 22, 42, 180, 0, 44, 28, 42, 180, 0, 32, 21, 4, 46, 79]
abbrev dktX8_leaves_1 : List UInt8 := dkwX8_leaves_1 ++ dktX8_leaves_2
def dkwX8_leaves_0 : List UInt8 := [3, 61, 4, 62, 42, 180, 0, 41, 3, 27, 79, 29, 158, 0, 76, 132, 3, 255, 42, 180, 0, 41, 29, 46]
abbrev dktX8_leaves_0 : List UInt8 := dkwX8_leaves_0 ++ dktX8_leaves_1
theorem dksX8_leaves_0 : cX8_leaves.data.toList.drop 0 = dktX8_leaves_0 := by decide +kernel
theorem dksX8_leaves_1 : cX8_leaves.data.toList.drop 24 = dktX8_leaves_1 := dk_seg dksX8_leaves_0 24 rfl rfl
theorem dksX8_leaves_2 : cX8_leaves.data.toList.drop 48 = dktX8_leaves_2 := dk_seg dksX8_leaves_1 24 rfl rfl
theorem dksX8_leaves_3 : cX8_leaves.data.toList.drop 72 = dktX8_leaves_3 := dk_seg dksX8_leaves_2 24 rfl rfl
theorem dX8_leaves_0 : decode cX8_leaves 0 = .ok (.iconst 0, 1) := dk_3 (dk_at dksX8_leaves_0 0 rfl rfl)
theorem dX8_leaves_1 : decode cX8_leaves 1 = .ok (.istore_n 2, 1) := dk_61 (dk_at dksX8_leaves_0 1 rfl rfl)
theorem dX8_leaves_2 : decode cX8_leaves 2 = .ok (.iconst 1, 1) := dk_4 (dk_at dksX8_leaves_0 2 rfl rfl)
theorem dX8_leaves_3 : decode cX8_leaves 3 = .ok (.istore_n 3, 1) := dk_62 (dk_at dksX8_leaves_0 3 rfl rfl)
theorem dX8_leaves_4 : decode cX8_leaves 4 = .ok (.aload_n 0, 1) := dk_42 (dk_at dksX8_leaves_0 4 rfl rfl)
theorem dX8_leaves_5 : decode cX8_leaves 5 = .ok (.getfield 41, 3) := dk_180 0 41 (dk_at dksX8_leaves_0 5 rfl rfl)
theorem dX8_leaves_8 : decode cX8_leaves 8 = .ok (.iconst 0, 1) := dk_3 (dk_at dksX8_leaves_0 8 rfl rfl)
theorem dX8_leaves_9 : decode cX8_leaves 9 = .ok (.iload_n 1, 1) := dk_27 (dk_at dksX8_leaves_0 9 rfl rfl)
theorem dX8_leaves_10 : decode cX8_leaves 10 = .ok (.iastore, 1) := dk_79 (dk_at dksX8_leaves_0 10 rfl rfl)
theorem dX8_leaves_11 : decode cX8_leaves 11 = .ok (.iload_n 3, 1) := dk_29 (dk_at dksX8_leaves_0 11 rfl rfl)
theorem dX8_leaves_12 : decode cX8_leaves 12 = .ok (.ifCond .le 76, 3) := dk_158 0 76 (dk_at dksX8_leaves_0 12 rfl rfl)
theorem dX8_leaves_15 : decode cX8_leaves 15 = .ok (.iinc 3 (-1), 3) := dk_132 3 255 (dk_at dksX8_leaves_0 15 rfl rfl)
theorem dX8_leaves_18 : decode cX8_leaves 18 = .ok (.aload_n 0, 1) := dk_42 (dk_at dksX8_leaves_0 18 rfl rfl)
theorem dX8_leaves_19 : decode cX8_leaves 19 = .ok (.getfield 41, 3) := dk_180 0 41 (dk_at dksX8_leaves_0 19 rfl rfl)
theorem dX8_leaves_22 : decode cX8_leaves 22 = .ok (.iload_n 3, 1) := dk_29 (dk_at dksX8_leaves_0 22 rfl rfl)
theorem dX8_leaves_23 : decode cX8_leaves 23 = .ok (.iaload, 1) := dk_46 (dk_at dksX8_leaves_0 23 rfl rfl)
theorem dX8_leaves_24 : decode cX8_leaves 24 = .ok (.istore 4, 2) := dk_54 4 (dk_at dksX8_leaves_1 0 rfl rfl)
theorem dX8_leaves_26 : decode cX8_leaves 26 = .ok (.aload_n 0, 1) := dk_42 (dk_at dksX8_leaves_1 2 rfl rfl)
theorem dX8_leaves_27 : decode cX8_leaves 27 = .ok (.iload 4, 2) := dk_21 4 (dk_at dksX8_leaves_1 3 rfl rfl)
theorem dX8_leaves_29 : decode cX8_leaves 29 = .ok (.invokevirtual 113, 3) := dk_182 0 113 (dk_at dksX8_leaves_1 5 rfl rfl)
theorem dX8_leaves_32 : decode cX8_leaves 32 = .ok (.ifCond .eq 22, 3) := dk_153 0 22 (dk_at dksX8_leaves_1 8 rfl rfl)
theorem dX8_leaves_35 : decode cX8_leaves 35 = .ok (.aload_n 0, 1) := dk_42 (dk_at dksX8_leaves_1 11 rfl rfl)
theorem dX8_leaves_36 : decode cX8_leaves 36 = .ok (.getfield 44, 3) := dk_180 0 44 (dk_at dksX8_leaves_1 12 rfl rfl)
theorem dX8_leaves_39 : decode cX8_leaves 39 = .ok (.iload_n 2, 1) := dk_28 (dk_at dksX8_leaves_1 15 rfl rfl)
theorem dX8_leaves_40 : decode cX8_leaves 40 = .ok (.aload_n 0, 1) := dk_42 (dk_at dksX8_leaves_1 16 rfl rfl)
theorem dX8_leaves_41 : decode cX8_leaves 41 = .ok (.getfield 32, 3) := dk_180 0 32 (dk_at dksX8_leaves_1 17 rfl rfl)
theorem dX8_leaves_44 : decode cX8_leaves 44 = .ok (.iload 4, 2) := dk_21 4 (dk_at dksX8_leaves_1 20 rfl rfl)
theorem dX8_leaves_46 : decode cX8_leaves 46 = .ok (.iaload, 1) := dk_46 (dk_at dksX8_leaves_1 22 rfl rfl)
theorem dX8_leaves_47 : decode cX8_leaves 47 = .ok (.iastore, 1) := dk_79 (dk_at dksX8_leaves_1 23 rfl rfl)
theorem dX8_leaves_48 : decode cX8_leaves 48 = .ok (.iinc 2 1, 3) := dk_132 2 1 (dk_at dksX8_leaves_2 0 rfl rfl)
theorem dX8_leaves_51 : decode cX8_leaves 51 = .ok (.goto 34, 3) := dk_167 0 34 (dk_at dksX8_leaves_2 3 rfl rfl)
theorem dX8_leaves_54 : decode cX8_leaves 54 = .ok (.aload_n 0, 1) := dk_42 (dk_at dksX8_leaves_2 6 rfl rfl)
theorem dX8_leaves_55 : decode cX8_leaves 55 = .ok (.getfield 41, 3) := dk_180 0 41 (dk_at dksX8_leaves_2 7 rfl rfl)
theorem dX8_leaves_58 : decode cX8_leaves 58 = .ok (.iload_n 3, 1) := dk_29 (dk_at dksX8_leaves_2 10 rfl rfl)
theorem dX8_leaves_59 : decode cX8_leaves 59 = .ok (.aload_n 0, 1) := dk_42 (dk_at dksX8_leaves_2 11 rfl rfl)
theorem dX8_leaves_60 : decode cX8_leaves 60 = .ok (.getfield 29, 3) := dk_180 0 29 (dk_at dksX8_leaves_2 12 rfl rfl)
theorem dX8_leaves_63 : decode cX8_leaves 63 = .ok (.iload 4, 2) := dk_21 4 (dk_at dksX8_leaves_2 15 rfl rfl)
theorem dX8_leaves_65 : decode cX8_leaves 65 = .ok (.iaload, 1) := dk_46 (dk_at dksX8_leaves_2 17 rfl rfl)
theorem dX8_leaves_66 : decode cX8_leaves 66 = .ok (.iastore, 1) := dk_79 (dk_at dksX8_leaves_2 18 rfl rfl)
theorem dX8_leaves_67 : decode cX8_leaves 67 = .ok (.aload_n 0, 1) := dk_42 (dk_at dksX8_leaves_2 19 rfl rfl)
theorem dX8_leaves_68 : decode cX8_leaves 68 = .ok (.getfield 41, 3) := dk_180 0 41 (dk_at dksX8_leaves_2 20 rfl rfl)
theorem dX8_leaves_71 : decode cX8_leaves 71 = .ok (.iload_n 3, 1) := dk_29 (dk_at dksX8_leaves_2 23 rfl rfl)
theorem dX8_leaves_72 : decode cX8_leaves 72 = .ok (.iconst 1, 1) := dk_4 (dk_at dksX8_leaves_3 0 rfl rfl)
theorem dX8_leaves_73 : decode cX8_leaves 73 = .ok (.iadd, 1) := dk_96 (dk_at dksX8_leaves_3 1 rfl rfl)
theorem dX8_leaves_74 : decode cX8_leaves 74 = .ok (.aload_n 0, 1) := dk_42 (dk_at dksX8_leaves_3 2 rfl rfl)
theorem dX8_leaves_75 : decode cX8_leaves 75 = .ok (.getfield 26, 3) := dk_180 0 26 (dk_at dksX8_leaves_3 3 rfl rfl)
theorem dX8_leaves_78 : decode cX8_leaves 78 = .ok (.iload 4, 2) := dk_21 4 (dk_at dksX8_leaves_3 6 rfl rfl)
theorem dX8_leaves_80 : decode cX8_leaves 80 = .ok (.iaload, 1) := dk_46 (dk_at dksX8_leaves_3 8 rfl rfl)
theorem dX8_leaves_81 : decode cX8_leaves 81 = .ok (.iastore, 1) := dk_79 (dk_at dksX8_leaves_3 9 rfl rfl)
theorem dX8_leaves_82 : decode cX8_leaves 82 = .ok (.iinc 3 2, 3) := dk_132 3 2 (dk_at dksX8_leaves_3 10 rfl rfl)
theorem dX8_leaves_85 : decode cX8_leaves 85 = .ok (.goto (-74), 3) := dk_167 255 182 (dk_at dksX8_leaves_3 13 rfl rfl)
theorem dX8_leaves_88 : decode cX8_leaves 88 = .ok (.iload_n 2, 1) := dk_28 (dk_at dksX8_leaves_3 16 rfl rfl)
theorem dX8_leaves_89 : decode cX8_leaves 89 = .ok (.ireturn, 1) := dk_172 (dk_at dksX8_leaves_3 17 rfl rfl)
abbrev cX8_levels : ByteArray := prog_11_method_17_code
def yX8_levels : MethodName := ⟨RX8, "levels", "(I)V"⟩
def dkwX8_levels_10 : List UInt8 := [79, 132, 3, 2, 167, 255, 51, 177]
abbrev dktX8_levels_10 : List UInt8 := dkwX8_levels_10 ++ []
def dkwX8_levels_9 : List UInt8 := [4, 96, 21, 9, 79, 42, 180, 0, 47, 29, 4, 96, 21, 7, 79, 42, 180, 0, 50, 29, 4, 96, 21, 6]
abbrev dktX8_levels_9 : List UInt8 := dkwX8_levels_9 ++ dktX8_levels_10
def dkwX8_levels_8 : List UInt8 := [21, 8, 79, 42, 180, 0, 47, 29, 21, 5, 79, 42, 180, 0, 50, 29, 21, 7, 79, 42, 180, 0, 41, 29]
abbrev dktX8_levels_8 : List UInt8 := dkwX8_levels_8 ++ dktX8_levels_9
def dkwX8_levels_7 : List UInt8 := [46, 79, 42, 180, 0, 38, 21, 4, 42, 180, 0, 44, 21, 7, 4, 100, 46, 79, 42, 180, 0, 41, 29]
abbrev dktX8_levels_7 : List UInt8 := dkwX8_levels_7 ++ dktX8_levels_8
def dkwX8_levels_6 : List UInt8 := [21, 4, 21, 9, 79, 42, 180, 0, 35, 21, 4, 42, 180, 0, 13, 42, 180, 0, 44, 21, 7, 4, 100, 46]
abbrev dktX8_levels_6 : List UInt8 := dkwX8_levels_6 ++ dktX8_levels_7
def dkwX8_levels_5 : List UInt8 := [180, 0, 44, 21, 7, 46, 182, 0, 124, 54, 9, 42, 180, 0, 26, 21, 4, 21, 8, 79, 42, 180, 0, 29]
abbrev dktX8_levels_5 : List UInt8 := dkwX8_levels_5 ++ dktX8_levels_6
def dkwX8_levels_4 : List UInt8 := [100, 4, 96, 5, 108, 96, 54, 7, 42, 42, 180, 0, 44, 21, 5, 46, 182, 0, 124, 54, 8, 42, 42]
abbrev dktX8_levels_4 : List UInt8 := dkwX8_levels_4 ++ dktX8_levels_5
def dkwX8_levels_3 : List UInt8 := [180, 0, 44, 21, 5, 46, 182, 0, 105, 21, 6, 21, 5, 100, 4, 164, 0, 155, 21, 5, 21, 6, 21, 5]
abbrev dktX8_levels_3 : List UInt8 := dkwX8_levels_3 ++ dktX8_levels_4
def dkwX8_levels_2 : List UInt8 := [54, 4, 42, 180, 0, 47, 29, 46, 54, 5, 42, 180, 0, 50, 29, 46, 54, 6, 42, 21, 4, 42]
abbrev dktX8_levels_2 : List UInt8 := dkwX8_levels_2 ++ dktX8_levels_3
def dkwX8_levels_1 : List UInt8 := [3, 3, 79, 42, 180, 0, 50, 3, 28, 79, 29, 158, 0, 207, 132, 3, 255, 42, 180, 0, 41, 29, 46]
abbrev dktX8_levels_1 : List UInt8 := dkwX8_levels_1 ++ dktX8_levels_2
def dkwX8_levels_0 : List UInt8 := [42, 27, 182, 0, 117, 61, 42, 27, 182, 0, 120, 4, 62, 42, 180, 0, 41, 3, 27, 79, 42, 180, 0, 47]
abbrev dktX8_levels_0 : List UInt8 := dkwX8_levels_0 ++ dktX8_levels_1
theorem dksX8_levels_0 : cX8_levels.data.toList.drop 0 = dktX8_levels_0 := by decide +kernel
theorem dksX8_levels_1 : cX8_levels.data.toList.drop 24 = dktX8_levels_1 := dk_seg dksX8_levels_0 24 rfl rfl
theorem dksX8_levels_2 : cX8_levels.data.toList.drop 47 = dktX8_levels_2 := dk_seg dksX8_levels_1 23 rfl rfl
theorem dksX8_levels_3 : cX8_levels.data.toList.drop 69 = dktX8_levels_3 := dk_seg dksX8_levels_2 22 rfl rfl
theorem dksX8_levels_4 : cX8_levels.data.toList.drop 93 = dktX8_levels_4 := dk_seg dksX8_levels_3 24 rfl rfl
theorem dksX8_levels_5 : cX8_levels.data.toList.drop 116 = dktX8_levels_5 := dk_seg dksX8_levels_4 23 rfl rfl
theorem dksX8_levels_6 : cX8_levels.data.toList.drop 140 = dktX8_levels_6 := dk_seg dksX8_levels_5 24 rfl rfl
theorem dksX8_levels_7 : cX8_levels.data.toList.drop 164 = dktX8_levels_7 := dk_seg dksX8_levels_6 24 rfl rfl
theorem dksX8_levels_8 : cX8_levels.data.toList.drop 187 = dktX8_levels_8 := dk_seg dksX8_levels_7 23 rfl rfl
theorem dksX8_levels_9 : cX8_levels.data.toList.drop 211 = dktX8_levels_9 := dk_seg dksX8_levels_8 24 rfl rfl
theorem dksX8_levels_10 : cX8_levels.data.toList.drop 235 = dktX8_levels_10 := dk_seg dksX8_levels_9 24 rfl rfl
theorem dX8_levels_0 : decode cX8_levels 0 = .ok (.aload_n 0, 1) := dk_42 (dk_at dksX8_levels_0 0 rfl rfl)
theorem dX8_levels_1 : decode cX8_levels 1 = .ok (.iload_n 1, 1) := dk_27 (dk_at dksX8_levels_0 1 rfl rfl)
theorem dX8_levels_2 : decode cX8_levels 2 = .ok (.invokevirtual 117, 3) := dk_182 0 117 (dk_at dksX8_levels_0 2 rfl rfl)
theorem dX8_levels_5 : decode cX8_levels 5 = .ok (.istore_n 2, 1) := dk_61 (dk_at dksX8_levels_0 5 rfl rfl)
theorem dX8_levels_6 : decode cX8_levels 6 = .ok (.aload_n 0, 1) := dk_42 (dk_at dksX8_levels_0 6 rfl rfl)
theorem dX8_levels_7 : decode cX8_levels 7 = .ok (.iload_n 1, 1) := dk_27 (dk_at dksX8_levels_0 7 rfl rfl)
theorem dX8_levels_8 : decode cX8_levels 8 = .ok (.invokevirtual 120, 3) := dk_182 0 120 (dk_at dksX8_levels_0 8 rfl rfl)
theorem dX8_levels_11 : decode cX8_levels 11 = .ok (.iconst 1, 1) := dk_4 (dk_at dksX8_levels_0 11 rfl rfl)
theorem dX8_levels_12 : decode cX8_levels 12 = .ok (.istore_n 3, 1) := dk_62 (dk_at dksX8_levels_0 12 rfl rfl)
theorem dX8_levels_13 : decode cX8_levels 13 = .ok (.aload_n 0, 1) := dk_42 (dk_at dksX8_levels_0 13 rfl rfl)
theorem dX8_levels_14 : decode cX8_levels 14 = .ok (.getfield 41, 3) := dk_180 0 41 (dk_at dksX8_levels_0 14 rfl rfl)
theorem dX8_levels_17 : decode cX8_levels 17 = .ok (.iconst 0, 1) := dk_3 (dk_at dksX8_levels_0 17 rfl rfl)
theorem dX8_levels_18 : decode cX8_levels 18 = .ok (.iload_n 1, 1) := dk_27 (dk_at dksX8_levels_0 18 rfl rfl)
theorem dX8_levels_19 : decode cX8_levels 19 = .ok (.iastore, 1) := dk_79 (dk_at dksX8_levels_0 19 rfl rfl)
theorem dX8_levels_20 : decode cX8_levels 20 = .ok (.aload_n 0, 1) := dk_42 (dk_at dksX8_levels_0 20 rfl rfl)
theorem dX8_levels_21 : decode cX8_levels 21 = .ok (.getfield 47, 3) := dk_180 0 47 (dk_at dksX8_levels_0 21 rfl rfl)
theorem dX8_levels_24 : decode cX8_levels 24 = .ok (.iconst 0, 1) := dk_3 (dk_at dksX8_levels_1 0 rfl rfl)
theorem dX8_levels_25 : decode cX8_levels 25 = .ok (.iconst 0, 1) := dk_3 (dk_at dksX8_levels_1 1 rfl rfl)
theorem dX8_levels_26 : decode cX8_levels 26 = .ok (.iastore, 1) := dk_79 (dk_at dksX8_levels_1 2 rfl rfl)
theorem dX8_levels_27 : decode cX8_levels 27 = .ok (.aload_n 0, 1) := dk_42 (dk_at dksX8_levels_1 3 rfl rfl)
theorem dX8_levels_28 : decode cX8_levels 28 = .ok (.getfield 50, 3) := dk_180 0 50 (dk_at dksX8_levels_1 4 rfl rfl)
theorem dX8_levels_31 : decode cX8_levels 31 = .ok (.iconst 0, 1) := dk_3 (dk_at dksX8_levels_1 7 rfl rfl)
theorem dX8_levels_32 : decode cX8_levels 32 = .ok (.iload_n 2, 1) := dk_28 (dk_at dksX8_levels_1 8 rfl rfl)
theorem dX8_levels_33 : decode cX8_levels 33 = .ok (.iastore, 1) := dk_79 (dk_at dksX8_levels_1 9 rfl rfl)
theorem dX8_levels_34 : decode cX8_levels 34 = .ok (.iload_n 3, 1) := dk_29 (dk_at dksX8_levels_1 10 rfl rfl)
theorem dX8_levels_35 : decode cX8_levels 35 = .ok (.ifCond .le 207, 3) := dk_158 0 207 (dk_at dksX8_levels_1 11 rfl rfl)
theorem dX8_levels_38 : decode cX8_levels 38 = .ok (.iinc 3 (-1), 3) := dk_132 3 255 (dk_at dksX8_levels_1 14 rfl rfl)
theorem dX8_levels_41 : decode cX8_levels 41 = .ok (.aload_n 0, 1) := dk_42 (dk_at dksX8_levels_1 17 rfl rfl)
theorem dX8_levels_42 : decode cX8_levels 42 = .ok (.getfield 41, 3) := dk_180 0 41 (dk_at dksX8_levels_1 18 rfl rfl)
theorem dX8_levels_45 : decode cX8_levels 45 = .ok (.iload_n 3, 1) := dk_29 (dk_at dksX8_levels_1 21 rfl rfl)
theorem dX8_levels_46 : decode cX8_levels 46 = .ok (.iaload, 1) := dk_46 (dk_at dksX8_levels_1 22 rfl rfl)
theorem dX8_levels_47 : decode cX8_levels 47 = .ok (.istore 4, 2) := dk_54 4 (dk_at dksX8_levels_2 0 rfl rfl)
theorem dX8_levels_49 : decode cX8_levels 49 = .ok (.aload_n 0, 1) := dk_42 (dk_at dksX8_levels_2 2 rfl rfl)
theorem dX8_levels_50 : decode cX8_levels 50 = .ok (.getfield 47, 3) := dk_180 0 47 (dk_at dksX8_levels_2 3 rfl rfl)
theorem dX8_levels_53 : decode cX8_levels 53 = .ok (.iload_n 3, 1) := dk_29 (dk_at dksX8_levels_2 6 rfl rfl)
theorem dX8_levels_54 : decode cX8_levels 54 = .ok (.iaload, 1) := dk_46 (dk_at dksX8_levels_2 7 rfl rfl)
theorem dX8_levels_55 : decode cX8_levels 55 = .ok (.istore 5, 2) := dk_54 5 (dk_at dksX8_levels_2 8 rfl rfl)
theorem dX8_levels_57 : decode cX8_levels 57 = .ok (.aload_n 0, 1) := dk_42 (dk_at dksX8_levels_2 10 rfl rfl)
theorem dX8_levels_58 : decode cX8_levels 58 = .ok (.getfield 50, 3) := dk_180 0 50 (dk_at dksX8_levels_2 11 rfl rfl)
theorem dX8_levels_61 : decode cX8_levels 61 = .ok (.iload_n 3, 1) := dk_29 (dk_at dksX8_levels_2 14 rfl rfl)
theorem dX8_levels_62 : decode cX8_levels 62 = .ok (.iaload, 1) := dk_46 (dk_at dksX8_levels_2 15 rfl rfl)
theorem dX8_levels_63 : decode cX8_levels 63 = .ok (.istore 6, 2) := dk_54 6 (dk_at dksX8_levels_2 16 rfl rfl)
theorem dX8_levels_65 : decode cX8_levels 65 = .ok (.aload_n 0, 1) := dk_42 (dk_at dksX8_levels_2 18 rfl rfl)
theorem dX8_levels_66 : decode cX8_levels 66 = .ok (.iload 4, 2) := dk_21 4 (dk_at dksX8_levels_2 19 rfl rfl)
theorem dX8_levels_68 : decode cX8_levels 68 = .ok (.aload_n 0, 1) := dk_42 (dk_at dksX8_levels_2 21 rfl rfl)
theorem dX8_levels_69 : decode cX8_levels 69 = .ok (.getfield 44, 3) := dk_180 0 44 (dk_at dksX8_levels_3 0 rfl rfl)
theorem dX8_levels_72 : decode cX8_levels 72 = .ok (.iload 5, 2) := dk_21 5 (dk_at dksX8_levels_3 3 rfl rfl)
theorem dX8_levels_74 : decode cX8_levels 74 = .ok (.iaload, 1) := dk_46 (dk_at dksX8_levels_3 5 rfl rfl)
theorem dX8_levels_75 : decode cX8_levels 75 = .ok (.invokevirtual 105, 3) := dk_182 0 105 (dk_at dksX8_levels_3 6 rfl rfl)
theorem dX8_levels_78 : decode cX8_levels 78 = .ok (.iload 6, 2) := dk_21 6 (dk_at dksX8_levels_3 9 rfl rfl)
theorem dX8_levels_80 : decode cX8_levels 80 = .ok (.iload 5, 2) := dk_21 5 (dk_at dksX8_levels_3 11 rfl rfl)
theorem dX8_levels_82 : decode cX8_levels 82 = .ok (.isub, 1) := dk_100 (dk_at dksX8_levels_3 13 rfl rfl)
theorem dX8_levels_83 : decode cX8_levels 83 = .ok (.iconst 1, 1) := dk_4 (dk_at dksX8_levels_3 14 rfl rfl)
theorem dX8_levels_84 : decode cX8_levels 84 = .ok (.if_icmp .le 155, 3) := dk_164 0 155 (dk_at dksX8_levels_3 15 rfl rfl)
theorem dX8_levels_87 : decode cX8_levels 87 = .ok (.iload 5, 2) := dk_21 5 (dk_at dksX8_levels_3 18 rfl rfl)
theorem dX8_levels_89 : decode cX8_levels 89 = .ok (.iload 6, 2) := dk_21 6 (dk_at dksX8_levels_3 20 rfl rfl)
theorem dX8_levels_91 : decode cX8_levels 91 = .ok (.iload 5, 2) := dk_21 5 (dk_at dksX8_levels_3 22 rfl rfl)
theorem dX8_levels_93 : decode cX8_levels 93 = .ok (.isub, 1) := dk_100 (dk_at dksX8_levels_4 0 rfl rfl)
theorem dX8_levels_94 : decode cX8_levels 94 = .ok (.iconst 1, 1) := dk_4 (dk_at dksX8_levels_4 1 rfl rfl)
theorem dX8_levels_95 : decode cX8_levels 95 = .ok (.iadd, 1) := dk_96 (dk_at dksX8_levels_4 2 rfl rfl)
theorem dX8_levels_96 : decode cX8_levels 96 = .ok (.iconst 2, 1) := dk_5 (dk_at dksX8_levels_4 3 rfl rfl)
theorem dX8_levels_97 : decode cX8_levels 97 = .ok (.idiv, 1) := dk_108 (dk_at dksX8_levels_4 4 rfl rfl)
theorem dX8_levels_98 : decode cX8_levels 98 = .ok (.iadd, 1) := dk_96 (dk_at dksX8_levels_4 5 rfl rfl)
theorem dX8_levels_99 : decode cX8_levels 99 = .ok (.istore 7, 2) := dk_54 7 (dk_at dksX8_levels_4 6 rfl rfl)
theorem dX8_levels_101 : decode cX8_levels 101 = .ok (.aload_n 0, 1) := dk_42 (dk_at dksX8_levels_4 8 rfl rfl)
theorem dX8_levels_102 : decode cX8_levels 102 = .ok (.aload_n 0, 1) := dk_42 (dk_at dksX8_levels_4 9 rfl rfl)
theorem dX8_levels_103 : decode cX8_levels 103 = .ok (.getfield 44, 3) := dk_180 0 44 (dk_at dksX8_levels_4 10 rfl rfl)
theorem dX8_levels_106 : decode cX8_levels 106 = .ok (.iload 5, 2) := dk_21 5 (dk_at dksX8_levels_4 13 rfl rfl)
theorem dX8_levels_108 : decode cX8_levels 108 = .ok (.iaload, 1) := dk_46 (dk_at dksX8_levels_4 15 rfl rfl)
theorem dX8_levels_109 : decode cX8_levels 109 = .ok (.invokevirtual 124, 3) := dk_182 0 124 (dk_at dksX8_levels_4 16 rfl rfl)
theorem dX8_levels_112 : decode cX8_levels 112 = .ok (.istore 8, 2) := dk_54 8 (dk_at dksX8_levels_4 19 rfl rfl)
theorem dX8_levels_114 : decode cX8_levels 114 = .ok (.aload_n 0, 1) := dk_42 (dk_at dksX8_levels_4 21 rfl rfl)
theorem dX8_levels_115 : decode cX8_levels 115 = .ok (.aload_n 0, 1) := dk_42 (dk_at dksX8_levels_4 22 rfl rfl)
theorem dX8_levels_116 : decode cX8_levels 116 = .ok (.getfield 44, 3) := dk_180 0 44 (dk_at dksX8_levels_5 0 rfl rfl)
theorem dX8_levels_119 : decode cX8_levels 119 = .ok (.iload 7, 2) := dk_21 7 (dk_at dksX8_levels_5 3 rfl rfl)
theorem dX8_levels_121 : decode cX8_levels 121 = .ok (.iaload, 1) := dk_46 (dk_at dksX8_levels_5 5 rfl rfl)
theorem dX8_levels_122 : decode cX8_levels 122 = .ok (.invokevirtual 124, 3) := dk_182 0 124 (dk_at dksX8_levels_5 6 rfl rfl)
theorem dX8_levels_125 : decode cX8_levels 125 = .ok (.istore 9, 2) := dk_54 9 (dk_at dksX8_levels_5 9 rfl rfl)
theorem dX8_levels_127 : decode cX8_levels 127 = .ok (.aload_n 0, 1) := dk_42 (dk_at dksX8_levels_5 11 rfl rfl)
theorem dX8_levels_128 : decode cX8_levels 128 = .ok (.getfield 26, 3) := dk_180 0 26 (dk_at dksX8_levels_5 12 rfl rfl)
theorem dX8_levels_131 : decode cX8_levels 131 = .ok (.iload 4, 2) := dk_21 4 (dk_at dksX8_levels_5 15 rfl rfl)
theorem dX8_levels_133 : decode cX8_levels 133 = .ok (.iload 8, 2) := dk_21 8 (dk_at dksX8_levels_5 17 rfl rfl)
theorem dX8_levels_135 : decode cX8_levels 135 = .ok (.iastore, 1) := dk_79 (dk_at dksX8_levels_5 19 rfl rfl)
theorem dX8_levels_136 : decode cX8_levels 136 = .ok (.aload_n 0, 1) := dk_42 (dk_at dksX8_levels_5 20 rfl rfl)
theorem dX8_levels_137 : decode cX8_levels 137 = .ok (.getfield 29, 3) := dk_180 0 29 (dk_at dksX8_levels_5 21 rfl rfl)
theorem dX8_levels_140 : decode cX8_levels 140 = .ok (.iload 4, 2) := dk_21 4 (dk_at dksX8_levels_6 0 rfl rfl)
theorem dX8_levels_142 : decode cX8_levels 142 = .ok (.iload 9, 2) := dk_21 9 (dk_at dksX8_levels_6 2 rfl rfl)
theorem dX8_levels_144 : decode cX8_levels 144 = .ok (.iastore, 1) := dk_79 (dk_at dksX8_levels_6 4 rfl rfl)
theorem dX8_levels_145 : decode cX8_levels 145 = .ok (.aload_n 0, 1) := dk_42 (dk_at dksX8_levels_6 5 rfl rfl)
theorem dX8_levels_146 : decode cX8_levels 146 = .ok (.getfield 35, 3) := dk_180 0 35 (dk_at dksX8_levels_6 6 rfl rfl)
theorem dX8_levels_149 : decode cX8_levels 149 = .ok (.iload 4, 2) := dk_21 4 (dk_at dksX8_levels_6 9 rfl rfl)
theorem dX8_levels_151 : decode cX8_levels 151 = .ok (.aload_n 0, 1) := dk_42 (dk_at dksX8_levels_6 11 rfl rfl)
theorem dX8_levels_152 : decode cX8_levels 152 = .ok (.getfield 13, 3) := dk_180 0 13 (dk_at dksX8_levels_6 12 rfl rfl)
theorem dX8_levels_155 : decode cX8_levels 155 = .ok (.aload_n 0, 1) := dk_42 (dk_at dksX8_levels_6 15 rfl rfl)
theorem dX8_levels_156 : decode cX8_levels 156 = .ok (.getfield 44, 3) := dk_180 0 44 (dk_at dksX8_levels_6 16 rfl rfl)
theorem dX8_levels_159 : decode cX8_levels 159 = .ok (.iload 7, 2) := dk_21 7 (dk_at dksX8_levels_6 19 rfl rfl)
theorem dX8_levels_161 : decode cX8_levels 161 = .ok (.iconst 1, 1) := dk_4 (dk_at dksX8_levels_6 21 rfl rfl)
theorem dX8_levels_162 : decode cX8_levels 162 = .ok (.isub, 1) := dk_100 (dk_at dksX8_levels_6 22 rfl rfl)
theorem dX8_levels_163 : decode cX8_levels 163 = .ok (.iaload, 1) := dk_46 (dk_at dksX8_levels_6 23 rfl rfl)
theorem dX8_levels_164 : decode cX8_levels 164 = .ok (.iaload, 1) := dk_46 (dk_at dksX8_levels_7 0 rfl rfl)
theorem dX8_levels_165 : decode cX8_levels 165 = .ok (.iastore, 1) := dk_79 (dk_at dksX8_levels_7 1 rfl rfl)
theorem dX8_levels_166 : decode cX8_levels 166 = .ok (.aload_n 0, 1) := dk_42 (dk_at dksX8_levels_7 2 rfl rfl)
theorem dX8_levels_167 : decode cX8_levels 167 = .ok (.getfield 38, 3) := dk_180 0 38 (dk_at dksX8_levels_7 3 rfl rfl)
theorem dX8_levels_170 : decode cX8_levels 170 = .ok (.iload 4, 2) := dk_21 4 (dk_at dksX8_levels_7 6 rfl rfl)
theorem dX8_levels_172 : decode cX8_levels 172 = .ok (.aload_n 0, 1) := dk_42 (dk_at dksX8_levels_7 8 rfl rfl)
theorem dX8_levels_173 : decode cX8_levels 173 = .ok (.getfield 44, 3) := dk_180 0 44 (dk_at dksX8_levels_7 9 rfl rfl)
theorem dX8_levels_176 : decode cX8_levels 176 = .ok (.iload 7, 2) := dk_21 7 (dk_at dksX8_levels_7 12 rfl rfl)
theorem dX8_levels_178 : decode cX8_levels 178 = .ok (.iconst 1, 1) := dk_4 (dk_at dksX8_levels_7 14 rfl rfl)
theorem dX8_levels_179 : decode cX8_levels 179 = .ok (.isub, 1) := dk_100 (dk_at dksX8_levels_7 15 rfl rfl)
theorem dX8_levels_180 : decode cX8_levels 180 = .ok (.iaload, 1) := dk_46 (dk_at dksX8_levels_7 16 rfl rfl)
theorem dX8_levels_181 : decode cX8_levels 181 = .ok (.iastore, 1) := dk_79 (dk_at dksX8_levels_7 17 rfl rfl)
theorem dX8_levels_182 : decode cX8_levels 182 = .ok (.aload_n 0, 1) := dk_42 (dk_at dksX8_levels_7 18 rfl rfl)
theorem dX8_levels_183 : decode cX8_levels 183 = .ok (.getfield 41, 3) := dk_180 0 41 (dk_at dksX8_levels_7 19 rfl rfl)
theorem dX8_levels_186 : decode cX8_levels 186 = .ok (.iload_n 3, 1) := dk_29 (dk_at dksX8_levels_7 22 rfl rfl)
theorem dX8_levels_187 : decode cX8_levels 187 = .ok (.iload 8, 2) := dk_21 8 (dk_at dksX8_levels_8 0 rfl rfl)
theorem dX8_levels_189 : decode cX8_levels 189 = .ok (.iastore, 1) := dk_79 (dk_at dksX8_levels_8 2 rfl rfl)
theorem dX8_levels_190 : decode cX8_levels 190 = .ok (.aload_n 0, 1) := dk_42 (dk_at dksX8_levels_8 3 rfl rfl)
theorem dX8_levels_191 : decode cX8_levels 191 = .ok (.getfield 47, 3) := dk_180 0 47 (dk_at dksX8_levels_8 4 rfl rfl)
theorem dX8_levels_194 : decode cX8_levels 194 = .ok (.iload_n 3, 1) := dk_29 (dk_at dksX8_levels_8 7 rfl rfl)
theorem dX8_levels_195 : decode cX8_levels 195 = .ok (.iload 5, 2) := dk_21 5 (dk_at dksX8_levels_8 8 rfl rfl)
theorem dX8_levels_197 : decode cX8_levels 197 = .ok (.iastore, 1) := dk_79 (dk_at dksX8_levels_8 10 rfl rfl)
theorem dX8_levels_198 : decode cX8_levels 198 = .ok (.aload_n 0, 1) := dk_42 (dk_at dksX8_levels_8 11 rfl rfl)
theorem dX8_levels_199 : decode cX8_levels 199 = .ok (.getfield 50, 3) := dk_180 0 50 (dk_at dksX8_levels_8 12 rfl rfl)
theorem dX8_levels_202 : decode cX8_levels 202 = .ok (.iload_n 3, 1) := dk_29 (dk_at dksX8_levels_8 15 rfl rfl)
theorem dX8_levels_203 : decode cX8_levels 203 = .ok (.iload 7, 2) := dk_21 7 (dk_at dksX8_levels_8 16 rfl rfl)
theorem dX8_levels_205 : decode cX8_levels 205 = .ok (.iastore, 1) := dk_79 (dk_at dksX8_levels_8 18 rfl rfl)
theorem dX8_levels_206 : decode cX8_levels 206 = .ok (.aload_n 0, 1) := dk_42 (dk_at dksX8_levels_8 19 rfl rfl)
theorem dX8_levels_207 : decode cX8_levels 207 = .ok (.getfield 41, 3) := dk_180 0 41 (dk_at dksX8_levels_8 20 rfl rfl)
theorem dX8_levels_210 : decode cX8_levels 210 = .ok (.iload_n 3, 1) := dk_29 (dk_at dksX8_levels_8 23 rfl rfl)
theorem dX8_levels_211 : decode cX8_levels 211 = .ok (.iconst 1, 1) := dk_4 (dk_at dksX8_levels_9 0 rfl rfl)
theorem dX8_levels_212 : decode cX8_levels 212 = .ok (.iadd, 1) := dk_96 (dk_at dksX8_levels_9 1 rfl rfl)
theorem dX8_levels_213 : decode cX8_levels 213 = .ok (.iload 9, 2) := dk_21 9 (dk_at dksX8_levels_9 2 rfl rfl)
theorem dX8_levels_215 : decode cX8_levels 215 = .ok (.iastore, 1) := dk_79 (dk_at dksX8_levels_9 4 rfl rfl)
theorem dX8_levels_216 : decode cX8_levels 216 = .ok (.aload_n 0, 1) := dk_42 (dk_at dksX8_levels_9 5 rfl rfl)
theorem dX8_levels_217 : decode cX8_levels 217 = .ok (.getfield 47, 3) := dk_180 0 47 (dk_at dksX8_levels_9 6 rfl rfl)
theorem dX8_levels_220 : decode cX8_levels 220 = .ok (.iload_n 3, 1) := dk_29 (dk_at dksX8_levels_9 9 rfl rfl)
theorem dX8_levels_221 : decode cX8_levels 221 = .ok (.iconst 1, 1) := dk_4 (dk_at dksX8_levels_9 10 rfl rfl)
theorem dX8_levels_222 : decode cX8_levels 222 = .ok (.iadd, 1) := dk_96 (dk_at dksX8_levels_9 11 rfl rfl)
theorem dX8_levels_223 : decode cX8_levels 223 = .ok (.iload 7, 2) := dk_21 7 (dk_at dksX8_levels_9 12 rfl rfl)
theorem dX8_levels_225 : decode cX8_levels 225 = .ok (.iastore, 1) := dk_79 (dk_at dksX8_levels_9 14 rfl rfl)
theorem dX8_levels_226 : decode cX8_levels 226 = .ok (.aload_n 0, 1) := dk_42 (dk_at dksX8_levels_9 15 rfl rfl)
theorem dX8_levels_227 : decode cX8_levels 227 = .ok (.getfield 50, 3) := dk_180 0 50 (dk_at dksX8_levels_9 16 rfl rfl)
theorem dX8_levels_230 : decode cX8_levels 230 = .ok (.iload_n 3, 1) := dk_29 (dk_at dksX8_levels_9 19 rfl rfl)
theorem dX8_levels_231 : decode cX8_levels 231 = .ok (.iconst 1, 1) := dk_4 (dk_at dksX8_levels_9 20 rfl rfl)
theorem dX8_levels_232 : decode cX8_levels 232 = .ok (.iadd, 1) := dk_96 (dk_at dksX8_levels_9 21 rfl rfl)
theorem dX8_levels_233 : decode cX8_levels 233 = .ok (.iload 6, 2) := dk_21 6 (dk_at dksX8_levels_9 22 rfl rfl)
theorem dX8_levels_235 : decode cX8_levels 235 = .ok (.iastore, 1) := dk_79 (dk_at dksX8_levels_10 0 rfl rfl)
theorem dX8_levels_236 : decode cX8_levels 236 = .ok (.iinc 3 2, 3) := dk_132 3 2 (dk_at dksX8_levels_10 1 rfl rfl)
theorem dX8_levels_239 : decode cX8_levels 239 = .ok (.goto (-205), 3) := dk_167 255 51 (dk_at dksX8_levels_10 4 rfl rfl)
theorem dX8_levels_242 : decode cX8_levels 242 = .ok (.return_, 1) := dk_177 (dk_at dksX8_levels_10 7 rfl rfl)
abbrev cX8_frees : ByteArray := prog_11_method_16_code
def yX8_frees : MethodName := ⟨RX8, "frees", "(I)V"⟩
def dkwX8_frees_4 : List UInt8 := [167, 255, 197, 177]
abbrev dktX8_frees_4 : List UInt8 := dkwX8_frees_4 ++ []
def dkwX8_frees_3 : List UInt8 := [180, 0, 41, 28, 4, 96, 42, 180, 0, 26, 29, 46, 79, 132, 2, 2, 42, 180, 0, 26, 29, 16, 254, 79]
abbrev dktX8_frees_3 : List UInt8 := dkwX8_frees_3 ++ dktX8_frees_4
def dkwX8_frees_2 : List UInt8 := [28, 46, 62, 42, 29, 182, 0, 113, 154, 0, 32, 42, 180, 0, 41, 28, 42, 180, 0, 29, 29, 46, 79, 42]
abbrev dktX8_frees_2 : List UInt8 := dkwX8_frees_2 ++ dktX8_frees_3
def dkwX8_frees_1 : List UInt8 := [180, 0, 41, 4, 42, 180, 0, 26, 27, 46, 79, 5, 61, 28, 158, 0, 61, 132, 2, 255, 42, 180, 0, 41]
abbrev dktX8_frees_1 : List UInt8 := dkwX8_frees_1 ++ dktX8_frees_2
def dkwX8_frees_0 : List UInt8 := [3, 61, 42, 27, 182, 0, 113, 154, 0, 29, 42, 180, 0, 41, 3, 42, 180, 0, 29, 27, 46, 79, 42]
abbrev dktX8_frees_0 : List UInt8 := dkwX8_frees_0 ++ dktX8_frees_1
theorem dksX8_frees_0 : cX8_frees.data.toList.drop 0 = dktX8_frees_0 := by decide +kernel
theorem dksX8_frees_1 : cX8_frees.data.toList.drop 23 = dktX8_frees_1 := dk_seg dksX8_frees_0 23 rfl rfl
theorem dksX8_frees_2 : cX8_frees.data.toList.drop 47 = dktX8_frees_2 := dk_seg dksX8_frees_1 24 rfl rfl
theorem dksX8_frees_3 : cX8_frees.data.toList.drop 71 = dktX8_frees_3 := dk_seg dksX8_frees_2 24 rfl rfl
theorem dksX8_frees_4 : cX8_frees.data.toList.drop 95 = dktX8_frees_4 := dk_seg dksX8_frees_3 24 rfl rfl
theorem dX8_frees_0 : decode cX8_frees 0 = .ok (.iconst 0, 1) := dk_3 (dk_at dksX8_frees_0 0 rfl rfl)
theorem dX8_frees_1 : decode cX8_frees 1 = .ok (.istore_n 2, 1) := dk_61 (dk_at dksX8_frees_0 1 rfl rfl)
theorem dX8_frees_2 : decode cX8_frees 2 = .ok (.aload_n 0, 1) := dk_42 (dk_at dksX8_frees_0 2 rfl rfl)
theorem dX8_frees_3 : decode cX8_frees 3 = .ok (.iload_n 1, 1) := dk_27 (dk_at dksX8_frees_0 3 rfl rfl)
theorem dX8_frees_4 : decode cX8_frees 4 = .ok (.invokevirtual 113, 3) := dk_182 0 113 (dk_at dksX8_frees_0 4 rfl rfl)
theorem dX8_frees_7 : decode cX8_frees 7 = .ok (.ifCond .ne 29, 3) := dk_154 0 29 (dk_at dksX8_frees_0 7 rfl rfl)
theorem dX8_frees_10 : decode cX8_frees 10 = .ok (.aload_n 0, 1) := dk_42 (dk_at dksX8_frees_0 10 rfl rfl)
theorem dX8_frees_11 : decode cX8_frees 11 = .ok (.getfield 41, 3) := dk_180 0 41 (dk_at dksX8_frees_0 11 rfl rfl)
theorem dX8_frees_14 : decode cX8_frees 14 = .ok (.iconst 0, 1) := dk_3 (dk_at dksX8_frees_0 14 rfl rfl)
theorem dX8_frees_15 : decode cX8_frees 15 = .ok (.aload_n 0, 1) := dk_42 (dk_at dksX8_frees_0 15 rfl rfl)
theorem dX8_frees_16 : decode cX8_frees 16 = .ok (.getfield 29, 3) := dk_180 0 29 (dk_at dksX8_frees_0 16 rfl rfl)
theorem dX8_frees_19 : decode cX8_frees 19 = .ok (.iload_n 1, 1) := dk_27 (dk_at dksX8_frees_0 19 rfl rfl)
theorem dX8_frees_20 : decode cX8_frees 20 = .ok (.iaload, 1) := dk_46 (dk_at dksX8_frees_0 20 rfl rfl)
theorem dX8_frees_21 : decode cX8_frees 21 = .ok (.iastore, 1) := dk_79 (dk_at dksX8_frees_0 21 rfl rfl)
theorem dX8_frees_22 : decode cX8_frees 22 = .ok (.aload_n 0, 1) := dk_42 (dk_at dksX8_frees_0 22 rfl rfl)
theorem dX8_frees_23 : decode cX8_frees 23 = .ok (.getfield 41, 3) := dk_180 0 41 (dk_at dksX8_frees_1 0 rfl rfl)
theorem dX8_frees_26 : decode cX8_frees 26 = .ok (.iconst 1, 1) := dk_4 (dk_at dksX8_frees_1 3 rfl rfl)
theorem dX8_frees_27 : decode cX8_frees 27 = .ok (.aload_n 0, 1) := dk_42 (dk_at dksX8_frees_1 4 rfl rfl)
theorem dX8_frees_28 : decode cX8_frees 28 = .ok (.getfield 26, 3) := dk_180 0 26 (dk_at dksX8_frees_1 5 rfl rfl)
theorem dX8_frees_31 : decode cX8_frees 31 = .ok (.iload_n 1, 1) := dk_27 (dk_at dksX8_frees_1 8 rfl rfl)
theorem dX8_frees_32 : decode cX8_frees 32 = .ok (.iaload, 1) := dk_46 (dk_at dksX8_frees_1 9 rfl rfl)
theorem dX8_frees_33 : decode cX8_frees 33 = .ok (.iastore, 1) := dk_79 (dk_at dksX8_frees_1 10 rfl rfl)
theorem dX8_frees_34 : decode cX8_frees 34 = .ok (.iconst 2, 1) := dk_5 (dk_at dksX8_frees_1 11 rfl rfl)
theorem dX8_frees_35 : decode cX8_frees 35 = .ok (.istore_n 2, 1) := dk_61 (dk_at dksX8_frees_1 12 rfl rfl)
theorem dX8_frees_36 : decode cX8_frees 36 = .ok (.iload_n 2, 1) := dk_28 (dk_at dksX8_frees_1 13 rfl rfl)
theorem dX8_frees_37 : decode cX8_frees 37 = .ok (.ifCond .le 61, 3) := dk_158 0 61 (dk_at dksX8_frees_1 14 rfl rfl)
theorem dX8_frees_40 : decode cX8_frees 40 = .ok (.iinc 2 (-1), 3) := dk_132 2 255 (dk_at dksX8_frees_1 17 rfl rfl)
theorem dX8_frees_43 : decode cX8_frees 43 = .ok (.aload_n 0, 1) := dk_42 (dk_at dksX8_frees_1 20 rfl rfl)
theorem dX8_frees_44 : decode cX8_frees 44 = .ok (.getfield 41, 3) := dk_180 0 41 (dk_at dksX8_frees_1 21 rfl rfl)
theorem dX8_frees_47 : decode cX8_frees 47 = .ok (.iload_n 2, 1) := dk_28 (dk_at dksX8_frees_2 0 rfl rfl)
theorem dX8_frees_48 : decode cX8_frees 48 = .ok (.iaload, 1) := dk_46 (dk_at dksX8_frees_2 1 rfl rfl)
theorem dX8_frees_49 : decode cX8_frees 49 = .ok (.istore_n 3, 1) := dk_62 (dk_at dksX8_frees_2 2 rfl rfl)
theorem dX8_frees_50 : decode cX8_frees 50 = .ok (.aload_n 0, 1) := dk_42 (dk_at dksX8_frees_2 3 rfl rfl)
theorem dX8_frees_51 : decode cX8_frees 51 = .ok (.iload_n 3, 1) := dk_29 (dk_at dksX8_frees_2 4 rfl rfl)
theorem dX8_frees_52 : decode cX8_frees 52 = .ok (.invokevirtual 113, 3) := dk_182 0 113 (dk_at dksX8_frees_2 5 rfl rfl)
theorem dX8_frees_55 : decode cX8_frees 55 = .ok (.ifCond .ne 32, 3) := dk_154 0 32 (dk_at dksX8_frees_2 8 rfl rfl)
theorem dX8_frees_58 : decode cX8_frees 58 = .ok (.aload_n 0, 1) := dk_42 (dk_at dksX8_frees_2 11 rfl rfl)
theorem dX8_frees_59 : decode cX8_frees 59 = .ok (.getfield 41, 3) := dk_180 0 41 (dk_at dksX8_frees_2 12 rfl rfl)
theorem dX8_frees_62 : decode cX8_frees 62 = .ok (.iload_n 2, 1) := dk_28 (dk_at dksX8_frees_2 15 rfl rfl)
theorem dX8_frees_63 : decode cX8_frees 63 = .ok (.aload_n 0, 1) := dk_42 (dk_at dksX8_frees_2 16 rfl rfl)
theorem dX8_frees_64 : decode cX8_frees 64 = .ok (.getfield 29, 3) := dk_180 0 29 (dk_at dksX8_frees_2 17 rfl rfl)
theorem dX8_frees_67 : decode cX8_frees 67 = .ok (.iload_n 3, 1) := dk_29 (dk_at dksX8_frees_2 20 rfl rfl)
theorem dX8_frees_68 : decode cX8_frees 68 = .ok (.iaload, 1) := dk_46 (dk_at dksX8_frees_2 21 rfl rfl)
theorem dX8_frees_69 : decode cX8_frees 69 = .ok (.iastore, 1) := dk_79 (dk_at dksX8_frees_2 22 rfl rfl)
theorem dX8_frees_70 : decode cX8_frees 70 = .ok (.aload_n 0, 1) := dk_42 (dk_at dksX8_frees_2 23 rfl rfl)
theorem dX8_frees_71 : decode cX8_frees 71 = .ok (.getfield 41, 3) := dk_180 0 41 (dk_at dksX8_frees_3 0 rfl rfl)
theorem dX8_frees_74 : decode cX8_frees 74 = .ok (.iload_n 2, 1) := dk_28 (dk_at dksX8_frees_3 3 rfl rfl)
theorem dX8_frees_75 : decode cX8_frees 75 = .ok (.iconst 1, 1) := dk_4 (dk_at dksX8_frees_3 4 rfl rfl)
theorem dX8_frees_76 : decode cX8_frees 76 = .ok (.iadd, 1) := dk_96 (dk_at dksX8_frees_3 5 rfl rfl)
theorem dX8_frees_77 : decode cX8_frees 77 = .ok (.aload_n 0, 1) := dk_42 (dk_at dksX8_frees_3 6 rfl rfl)
theorem dX8_frees_78 : decode cX8_frees 78 = .ok (.getfield 26, 3) := dk_180 0 26 (dk_at dksX8_frees_3 7 rfl rfl)
theorem dX8_frees_81 : decode cX8_frees 81 = .ok (.iload_n 3, 1) := dk_29 (dk_at dksX8_frees_3 10 rfl rfl)
theorem dX8_frees_82 : decode cX8_frees 82 = .ok (.iaload, 1) := dk_46 (dk_at dksX8_frees_3 11 rfl rfl)
theorem dX8_frees_83 : decode cX8_frees 83 = .ok (.iastore, 1) := dk_79 (dk_at dksX8_frees_3 12 rfl rfl)
theorem dX8_frees_84 : decode cX8_frees 84 = .ok (.iinc 2 2, 3) := dk_132 2 2 (dk_at dksX8_frees_3 13 rfl rfl)
theorem dX8_frees_87 : decode cX8_frees 87 = .ok (.aload_n 0, 1) := dk_42 (dk_at dksX8_frees_3 16 rfl rfl)
theorem dX8_frees_88 : decode cX8_frees 88 = .ok (.getfield 26, 3) := dk_180 0 26 (dk_at dksX8_frees_3 17 rfl rfl)
theorem dX8_frees_91 : decode cX8_frees 91 = .ok (.iload_n 3, 1) := dk_29 (dk_at dksX8_frees_3 20 rfl rfl)
theorem dX8_frees_92 : decode cX8_frees 92 = .ok (.bipush (-2), 2) := dk_16 254 (dk_at dksX8_frees_3 21 rfl rfl)
theorem dX8_frees_94 : decode cX8_frees 94 = .ok (.iastore, 1) := dk_79 (dk_at dksX8_frees_3 23 rfl rfl)
theorem dX8_frees_95 : decode cX8_frees 95 = .ok (.goto (-59), 3) := dk_167 255 197 (dk_at dksX8_frees_4 0 rfl rfl)
theorem dX8_frees_98 : decode cX8_frees 98 = .ok (.return_, 1) := dk_177 (dk_at dksX8_frees_4 3 rfl rfl)
abbrev cX8_job : ByteArray := prog_11_method_27_code
def yX8_job : MethodName := ⟨RX8, "job", "(II)I"⟩
def dkwX8_job_4 : List UInt8 := [27, 182, 0, 143, 182, 0, 165, 172]
abbrev dktX8_job_4 : List UInt8 := dkwX8_job_4 ++ []
def dkwX8_job_3 : List UInt8 := [180, 0, 19, 27, 46, 172, 42, 27, 182, 0, 146, 172, 42, 42, 27, 182, 0, 162, 182, 0, 165, 172, 42, 42]
abbrev dktX8_job_3 : List UInt8 := dkwX8_job_3 ++ dktX8_job_4
def dkwX8_job_2 : List UInt8 := [42, 180, 0, 7, 27, 46, 172, 42, 180, 0, 13, 27, 46, 172, 42, 180, 0, 16, 27, 46, 172, 42]
abbrev dktX8_job_2 : List UInt8 := dkwX8_job_2 ++ dktX8_job_3
def dkwX8_job_1 : List UInt8 := [170, 0, 0, 0, 0, 0, 83, 0, 0, 0, 0, 0, 0, 0, 5, 0, 0, 0, 39, 0, 0, 0, 46, 0, 0, 0, 53, 0, 0, 0, 60, 0, 0, 0, 67, 0, 0, 0, 73]
abbrev dktX8_job_1 : List UInt8 := dkwX8_job_1 ++ dktX8_job_2
def dkwX8_job_0 : List UInt8 := [42, 27, 182, 0, 159, 153, 0, 13, 28, 3, 16, 6, 184, 0, 93, 154, 0, 5, 2, 172, 28]
abbrev dktX8_job_0 : List UInt8 := dkwX8_job_0 ++ dktX8_job_1
theorem dksX8_job_0 : cX8_job.data.toList.drop 0 = dktX8_job_0 := by decide +kernel
theorem dksX8_job_1 : cX8_job.data.toList.drop 21 = dktX8_job_1 := dk_seg dksX8_job_0 21 rfl rfl
theorem dksX8_job_2 : cX8_job.data.toList.drop 60 = dktX8_job_2 := dk_seg dksX8_job_1 39 rfl rfl
theorem dksX8_job_3 : cX8_job.data.toList.drop 82 = dktX8_job_3 := dk_seg dksX8_job_2 22 rfl rfl
theorem dksX8_job_4 : cX8_job.data.toList.drop 106 = dktX8_job_4 := dk_seg dksX8_job_3 24 rfl rfl
theorem dX8_job_0 : decode cX8_job 0 = .ok (.aload_n 0, 1) := dk_42 (dk_at dksX8_job_0 0 rfl rfl)
theorem dX8_job_1 : decode cX8_job 1 = .ok (.iload_n 1, 1) := dk_27 (dk_at dksX8_job_0 1 rfl rfl)
theorem dX8_job_2 : decode cX8_job 2 = .ok (.invokevirtual 159, 3) := dk_182 0 159 (dk_at dksX8_job_0 2 rfl rfl)
theorem dX8_job_5 : decode cX8_job 5 = .ok (.ifCond .eq 13, 3) := dk_153 0 13 (dk_at dksX8_job_0 5 rfl rfl)
theorem dX8_job_8 : decode cX8_job 8 = .ok (.iload_n 2, 1) := dk_28 (dk_at dksX8_job_0 8 rfl rfl)
theorem dX8_job_9 : decode cX8_job 9 = .ok (.iconst 0, 1) := dk_3 (dk_at dksX8_job_0 9 rfl rfl)
theorem dX8_job_10 : decode cX8_job 10 = .ok (.bipush 6, 2) := dk_16 6 (dk_at dksX8_job_0 10 rfl rfl)
theorem dX8_job_12 : decode cX8_job 12 = .ok (.invokestatic 93, 3) := dk_184 0 93 (dk_at dksX8_job_0 12 rfl rfl)
theorem dX8_job_15 : decode cX8_job 15 = .ok (.ifCond .ne 5, 3) := dk_154 0 5 (dk_at dksX8_job_0 15 rfl rfl)
theorem dX8_job_18 : decode cX8_job 18 = .ok (.iconst (-1), 1) := dk_2 (dk_at dksX8_job_0 18 rfl rfl)
theorem dX8_job_19 : decode cX8_job 19 = .ok (.ireturn, 1) := dk_172 (dk_at dksX8_job_0 19 rfl rfl)
theorem dX8_job_20 : decode cX8_job 20 = .ok (.iload_n 2, 1) := dk_28 (dk_at dksX8_job_0 20 rfl rfl)
theorem dX8_job_21 : decode cX8_job 21 = .ok (.tableswitch 83 0 5 #[39, 46, 53, 60, 67, 73], 39) := by decide +kernel
theorem dX8_job_60 : decode cX8_job 60 = .ok (.aload_n 0, 1) := dk_42 (dk_at dksX8_job_2 0 rfl rfl)
theorem dX8_job_61 : decode cX8_job 61 = .ok (.getfield 7, 3) := dk_180 0 7 (dk_at dksX8_job_2 1 rfl rfl)
theorem dX8_job_64 : decode cX8_job 64 = .ok (.iload_n 1, 1) := dk_27 (dk_at dksX8_job_2 4 rfl rfl)
theorem dX8_job_65 : decode cX8_job 65 = .ok (.iaload, 1) := dk_46 (dk_at dksX8_job_2 5 rfl rfl)
theorem dX8_job_66 : decode cX8_job 66 = .ok (.ireturn, 1) := dk_172 (dk_at dksX8_job_2 6 rfl rfl)
theorem dX8_job_67 : decode cX8_job 67 = .ok (.aload_n 0, 1) := dk_42 (dk_at dksX8_job_2 7 rfl rfl)
theorem dX8_job_68 : decode cX8_job 68 = .ok (.getfield 13, 3) := dk_180 0 13 (dk_at dksX8_job_2 8 rfl rfl)
theorem dX8_job_71 : decode cX8_job 71 = .ok (.iload_n 1, 1) := dk_27 (dk_at dksX8_job_2 11 rfl rfl)
theorem dX8_job_72 : decode cX8_job 72 = .ok (.iaload, 1) := dk_46 (dk_at dksX8_job_2 12 rfl rfl)
theorem dX8_job_73 : decode cX8_job 73 = .ok (.ireturn, 1) := dk_172 (dk_at dksX8_job_2 13 rfl rfl)
theorem dX8_job_74 : decode cX8_job 74 = .ok (.aload_n 0, 1) := dk_42 (dk_at dksX8_job_2 14 rfl rfl)
theorem dX8_job_75 : decode cX8_job 75 = .ok (.getfield 16, 3) := dk_180 0 16 (dk_at dksX8_job_2 15 rfl rfl)
theorem dX8_job_78 : decode cX8_job 78 = .ok (.iload_n 1, 1) := dk_27 (dk_at dksX8_job_2 18 rfl rfl)
theorem dX8_job_79 : decode cX8_job 79 = .ok (.iaload, 1) := dk_46 (dk_at dksX8_job_2 19 rfl rfl)
theorem dX8_job_80 : decode cX8_job 80 = .ok (.ireturn, 1) := dk_172 (dk_at dksX8_job_2 20 rfl rfl)
theorem dX8_job_81 : decode cX8_job 81 = .ok (.aload_n 0, 1) := dk_42 (dk_at dksX8_job_2 21 rfl rfl)
theorem dX8_job_82 : decode cX8_job 82 = .ok (.getfield 19, 3) := dk_180 0 19 (dk_at dksX8_job_3 0 rfl rfl)
theorem dX8_job_85 : decode cX8_job 85 = .ok (.iload_n 1, 1) := dk_27 (dk_at dksX8_job_3 3 rfl rfl)
theorem dX8_job_86 : decode cX8_job 86 = .ok (.iaload, 1) := dk_46 (dk_at dksX8_job_3 4 rfl rfl)
theorem dX8_job_87 : decode cX8_job 87 = .ok (.ireturn, 1) := dk_172 (dk_at dksX8_job_3 5 rfl rfl)
theorem dX8_job_88 : decode cX8_job 88 = .ok (.aload_n 0, 1) := dk_42 (dk_at dksX8_job_3 6 rfl rfl)
theorem dX8_job_89 : decode cX8_job 89 = .ok (.iload_n 1, 1) := dk_27 (dk_at dksX8_job_3 7 rfl rfl)
theorem dX8_job_90 : decode cX8_job 90 = .ok (.invokevirtual 146, 3) := dk_182 0 146 (dk_at dksX8_job_3 8 rfl rfl)
theorem dX8_job_93 : decode cX8_job 93 = .ok (.ireturn, 1) := dk_172 (dk_at dksX8_job_3 11 rfl rfl)
theorem dX8_job_94 : decode cX8_job 94 = .ok (.aload_n 0, 1) := dk_42 (dk_at dksX8_job_3 12 rfl rfl)
theorem dX8_job_95 : decode cX8_job 95 = .ok (.aload_n 0, 1) := dk_42 (dk_at dksX8_job_3 13 rfl rfl)
theorem dX8_job_96 : decode cX8_job 96 = .ok (.iload_n 1, 1) := dk_27 (dk_at dksX8_job_3 14 rfl rfl)
theorem dX8_job_97 : decode cX8_job 97 = .ok (.invokevirtual 162, 3) := dk_182 0 162 (dk_at dksX8_job_3 15 rfl rfl)
theorem dX8_job_100 : decode cX8_job 100 = .ok (.invokevirtual 165, 3) := dk_182 0 165 (dk_at dksX8_job_3 18 rfl rfl)
theorem dX8_job_103 : decode cX8_job 103 = .ok (.ireturn, 1) := dk_172 (dk_at dksX8_job_3 21 rfl rfl)
theorem dX8_job_104 : decode cX8_job 104 = .ok (.aload_n 0, 1) := dk_42 (dk_at dksX8_job_3 22 rfl rfl)
theorem dX8_job_105 : decode cX8_job 105 = .ok (.aload_n 0, 1) := dk_42 (dk_at dksX8_job_3 23 rfl rfl)
theorem dX8_job_106 : decode cX8_job 106 = .ok (.iload_n 1, 1) := dk_27 (dk_at dksX8_job_4 0 rfl rfl)
theorem dX8_job_107 : decode cX8_job 107 = .ok (.invokevirtual 143, 3) := dk_182 0 143 (dk_at dksX8_job_4 1 rfl rfl)
theorem dX8_job_110 : decode cX8_job 110 = .ok (.invokevirtual 165, 3) := dk_182 0 165 (dk_at dksX8_job_4 4 rfl rfl)
theorem dX8_job_113 : decode cX8_job 113 = .ok (.ireturn, 1) := dk_172 (dk_at dksX8_job_4 7 rfl rfl)
abbrev cX8_isJob : ByteArray := prog_11_method_6_code
def yX8_isJob : MethodName := ⟨RX8, "isJob", "(I)Z"⟩
def dkwX8_isJob_1 : List UInt8 := [167, 0, 4, 3, 172]
abbrev dktX8_isJob_1 : List UInt8 := dkwX8_isJob_1 ++ []
def dkwX8_isJob_0 : List UInt8 := [27, 3, 16, 11, 184, 0, 93, 153, 0, 18, 42, 180, 0, 90, 27, 184, 0, 97, 153, 0, 7, 4]
abbrev dktX8_isJob_0 : List UInt8 := dkwX8_isJob_0 ++ dktX8_isJob_1
theorem dksX8_isJob_0 : cX8_isJob.data.toList.drop 0 = dktX8_isJob_0 := by decide +kernel
theorem dksX8_isJob_1 : cX8_isJob.data.toList.drop 22 = dktX8_isJob_1 := dk_seg dksX8_isJob_0 22 rfl rfl
theorem dX8_isJob_0 : decode cX8_isJob 0 = .ok (.iload_n 1, 1) := dk_27 (dk_at dksX8_isJob_0 0 rfl rfl)
theorem dX8_isJob_1 : decode cX8_isJob 1 = .ok (.iconst 0, 1) := dk_3 (dk_at dksX8_isJob_0 1 rfl rfl)
theorem dX8_isJob_2 : decode cX8_isJob 2 = .ok (.bipush 11, 2) := dk_16 11 (dk_at dksX8_isJob_0 2 rfl rfl)
theorem dX8_isJob_4 : decode cX8_isJob 4 = .ok (.invokestatic 93, 3) := dk_184 0 93 (dk_at dksX8_isJob_0 4 rfl rfl)
theorem dX8_isJob_7 : decode cX8_isJob 7 = .ok (.ifCond .eq 18, 3) := dk_153 0 18 (dk_at dksX8_isJob_0 7 rfl rfl)
theorem dX8_isJob_10 : decode cX8_isJob 10 = .ok (.aload_n 0, 1) := dk_42 (dk_at dksX8_isJob_0 10 rfl rfl)
theorem dX8_isJob_11 : decode cX8_isJob 11 = .ok (.getfield 90, 3) := dk_180 0 90 (dk_at dksX8_isJob_0 11 rfl rfl)
theorem dX8_isJob_14 : decode cX8_isJob 14 = .ok (.iload_n 1, 1) := dk_27 (dk_at dksX8_isJob_0 14 rfl rfl)
theorem dX8_isJob_15 : decode cX8_isJob 15 = .ok (.invokestatic 97, 3) := dk_184 0 97 (dk_at dksX8_isJob_0 15 rfl rfl)
theorem dX8_isJob_18 : decode cX8_isJob 18 = .ok (.ifCond .eq 7, 3) := dk_153 0 7 (dk_at dksX8_isJob_0 18 rfl rfl)
theorem dX8_isJob_21 : decode cX8_isJob 21 = .ok (.iconst 1, 1) := dk_4 (dk_at dksX8_isJob_0 21 rfl rfl)
theorem dX8_isJob_22 : decode cX8_isJob 22 = .ok (.goto 4, 3) := dk_167 0 4 (dk_at dksX8_isJob_1 0 rfl rfl)
theorem dX8_isJob_25 : decode cX8_isJob 25 = .ok (.iconst 0, 1) := dk_3 (dk_at dksX8_isJob_1 3 rfl rfl)
theorem dX8_isJob_26 : decode cX8_isJob 26 = .ok (.ireturn, 1) := dk_172 (dk_at dksX8_isJob_1 4 rfl rfl)
abbrev cX8_in : ByteArray := prog_11_method_1_code
def yX8_in : MethodName := ⟨RX8, "in", "(III)Z"⟩
def dkwX8_in_0 : List UInt8 := [26, 27, 161, 0, 12, 26, 28, 163, 0, 7, 4, 167, 0, 4, 3, 172]
abbrev dktX8_in_0 : List UInt8 := dkwX8_in_0 ++ []
theorem dksX8_in_0 : cX8_in.data.toList.drop 0 = dktX8_in_0 := by decide +kernel
theorem dX8_in_0 : decode cX8_in 0 = .ok (.iload_n 0, 1) := dk_26 (dk_at dksX8_in_0 0 rfl rfl)
theorem dX8_in_1 : decode cX8_in 1 = .ok (.iload_n 1, 1) := dk_27 (dk_at dksX8_in_0 1 rfl rfl)
theorem dX8_in_2 : decode cX8_in 2 = .ok (.if_icmp .lt 12, 3) := dk_161 0 12 (dk_at dksX8_in_0 2 rfl rfl)
theorem dX8_in_5 : decode cX8_in 5 = .ok (.iload_n 0, 1) := dk_26 (dk_at dksX8_in_0 5 rfl rfl)
theorem dX8_in_6 : decode cX8_in 6 = .ok (.iload_n 2, 1) := dk_28 (dk_at dksX8_in_0 6 rfl rfl)
theorem dX8_in_7 : decode cX8_in 7 = .ok (.if_icmp .gt 7, 3) := dk_163 0 7 (dk_at dksX8_in_0 7 rfl rfl)
theorem dX8_in_10 : decode cX8_in 10 = .ok (.iconst 1, 1) := dk_4 (dk_at dksX8_in_0 10 rfl rfl)
theorem dX8_in_11 : decode cX8_in 11 = .ok (.goto 4, 3) := dk_167 0 4 (dk_at dksX8_in_0 11 rfl rfl)
theorem dX8_in_14 : decode cX8_in 14 = .ok (.iconst 0, 1) := dk_3 (dk_at dksX8_in_0 14 rfl rfl)
theorem dX8_in_15 : decode cX8_in 15 = .ok (.ireturn, 1) := dk_172 (dk_at dksX8_in_0 15 rfl rfl)
abbrev cX8_rank : ByteArray := prog_11_method_8_code
def yX8_rank : MethodName := ⟨RX8, "rank", "(I)I"⟩
def dkwX8_rank_0 : List UInt8 := [42, 27, 42, 180, 0, 16, 27, 46, 182, 0, 101, 172]
abbrev dktX8_rank_0 : List UInt8 := dkwX8_rank_0 ++ []
theorem dksX8_rank_0 : cX8_rank.data.toList.drop 0 = dktX8_rank_0 := by decide +kernel
theorem dX8_rank_0 : decode cX8_rank 0 = .ok (.aload_n 0, 1) := dk_42 (dk_at dksX8_rank_0 0 rfl rfl)
theorem dX8_rank_1 : decode cX8_rank 1 = .ok (.iload_n 1, 1) := dk_27 (dk_at dksX8_rank_0 1 rfl rfl)
theorem dX8_rank_2 : decode cX8_rank 2 = .ok (.aload_n 0, 1) := dk_42 (dk_at dksX8_rank_0 2 rfl rfl)
theorem dX8_rank_3 : decode cX8_rank 3 = .ok (.getfield 16, 3) := dk_180 0 16 (dk_at dksX8_rank_0 3 rfl rfl)
theorem dX8_rank_6 : decode cX8_rank 6 = .ok (.iload_n 1, 1) := dk_27 (dk_at dksX8_rank_0 6 rfl rfl)
theorem dX8_rank_7 : decode cX8_rank 7 = .ok (.iaload, 1) := dk_46 (dk_at dksX8_rank_0 7 rfl rfl)
theorem dX8_rank_8 : decode cX8_rank 8 = .ok (.invokevirtual 101, 3) := dk_182 0 101 (dk_at dksX8_rank_0 8 rfl rfl)
theorem dX8_rank_11 : decode cX8_rank 11 = .ok (.ireturn, 1) := dk_172 (dk_at dksX8_rank_0 11 rfl rfl)
abbrev cX8_rankBy : ByteArray := prog_11_method_7_code
def yX8_rankBy : MethodName := ⟨RX8, "rankBy", "(II)I"⟩
def dkwX8_rankBy_3 : List UInt8 := [156, 0, 7, 3, 167, 0, 4, 29, 172]
abbrev dktX8_rankBy_3 : List UInt8 := dkwX8_rankBy_3 ++ []
def dkwX8_rankBy_2 : List UInt8 := [29, 42, 180, 0, 7, 27, 46, 6, 160, 0, 12, 42, 180, 0, 19, 27, 46, 167, 0, 4, 3, 100, 62, 29]
abbrev dktX8_rankBy_2 : List UInt8 := dkwX8_rankBy_2 ++ dktX8_rankBy_3
def dkwX8_rankBy_1 : List UInt8 := [167, 0, 4, 28, 62, 42, 180, 0, 7, 27, 46, 5, 160, 0, 12, 29, 42, 180, 0, 19, 27, 46, 96, 172]
abbrev dktX8_rankBy_1 : List UInt8 := dkwX8_rankBy_1 ++ dktX8_rankBy_2
def dkwX8_rankBy_0 : List UInt8 := [42, 180, 0, 7, 27, 46, 4, 159, 0, 13, 42, 180, 0, 7, 27, 46, 6, 160, 0, 9, 28, 5, 108]
abbrev dktX8_rankBy_0 : List UInt8 := dkwX8_rankBy_0 ++ dktX8_rankBy_1
theorem dksX8_rankBy_0 : cX8_rankBy.data.toList.drop 0 = dktX8_rankBy_0 := by decide +kernel
theorem dksX8_rankBy_1 : cX8_rankBy.data.toList.drop 23 = dktX8_rankBy_1 := dk_seg dksX8_rankBy_0 23 rfl rfl
theorem dksX8_rankBy_2 : cX8_rankBy.data.toList.drop 47 = dktX8_rankBy_2 := dk_seg dksX8_rankBy_1 24 rfl rfl
theorem dksX8_rankBy_3 : cX8_rankBy.data.toList.drop 71 = dktX8_rankBy_3 := dk_seg dksX8_rankBy_2 24 rfl rfl
theorem dX8_rankBy_0 : decode cX8_rankBy 0 = .ok (.aload_n 0, 1) := dk_42 (dk_at dksX8_rankBy_0 0 rfl rfl)
theorem dX8_rankBy_1 : decode cX8_rankBy 1 = .ok (.getfield 7, 3) := dk_180 0 7 (dk_at dksX8_rankBy_0 1 rfl rfl)
theorem dX8_rankBy_4 : decode cX8_rankBy 4 = .ok (.iload_n 1, 1) := dk_27 (dk_at dksX8_rankBy_0 4 rfl rfl)
theorem dX8_rankBy_5 : decode cX8_rankBy 5 = .ok (.iaload, 1) := dk_46 (dk_at dksX8_rankBy_0 5 rfl rfl)
theorem dX8_rankBy_6 : decode cX8_rankBy 6 = .ok (.iconst 1, 1) := dk_4 (dk_at dksX8_rankBy_0 6 rfl rfl)
theorem dX8_rankBy_7 : decode cX8_rankBy 7 = .ok (.if_icmp .eq 13, 3) := dk_159 0 13 (dk_at dksX8_rankBy_0 7 rfl rfl)
theorem dX8_rankBy_10 : decode cX8_rankBy 10 = .ok (.aload_n 0, 1) := dk_42 (dk_at dksX8_rankBy_0 10 rfl rfl)
theorem dX8_rankBy_11 : decode cX8_rankBy 11 = .ok (.getfield 7, 3) := dk_180 0 7 (dk_at dksX8_rankBy_0 11 rfl rfl)
theorem dX8_rankBy_14 : decode cX8_rankBy 14 = .ok (.iload_n 1, 1) := dk_27 (dk_at dksX8_rankBy_0 14 rfl rfl)
theorem dX8_rankBy_15 : decode cX8_rankBy 15 = .ok (.iaload, 1) := dk_46 (dk_at dksX8_rankBy_0 15 rfl rfl)
theorem dX8_rankBy_16 : decode cX8_rankBy 16 = .ok (.iconst 3, 1) := dk_6 (dk_at dksX8_rankBy_0 16 rfl rfl)
theorem dX8_rankBy_17 : decode cX8_rankBy 17 = .ok (.if_icmp .ne 9, 3) := dk_160 0 9 (dk_at dksX8_rankBy_0 17 rfl rfl)
theorem dX8_rankBy_20 : decode cX8_rankBy 20 = .ok (.iload_n 2, 1) := dk_28 (dk_at dksX8_rankBy_0 20 rfl rfl)
theorem dX8_rankBy_21 : decode cX8_rankBy 21 = .ok (.iconst 2, 1) := dk_5 (dk_at dksX8_rankBy_0 21 rfl rfl)
theorem dX8_rankBy_22 : decode cX8_rankBy 22 = .ok (.idiv, 1) := dk_108 (dk_at dksX8_rankBy_0 22 rfl rfl)
theorem dX8_rankBy_23 : decode cX8_rankBy 23 = .ok (.goto 4, 3) := dk_167 0 4 (dk_at dksX8_rankBy_1 0 rfl rfl)
theorem dX8_rankBy_26 : decode cX8_rankBy 26 = .ok (.iload_n 2, 1) := dk_28 (dk_at dksX8_rankBy_1 3 rfl rfl)
theorem dX8_rankBy_27 : decode cX8_rankBy 27 = .ok (.istore_n 3, 1) := dk_62 (dk_at dksX8_rankBy_1 4 rfl rfl)
theorem dX8_rankBy_28 : decode cX8_rankBy 28 = .ok (.aload_n 0, 1) := dk_42 (dk_at dksX8_rankBy_1 5 rfl rfl)
theorem dX8_rankBy_29 : decode cX8_rankBy 29 = .ok (.getfield 7, 3) := dk_180 0 7 (dk_at dksX8_rankBy_1 6 rfl rfl)
theorem dX8_rankBy_32 : decode cX8_rankBy 32 = .ok (.iload_n 1, 1) := dk_27 (dk_at dksX8_rankBy_1 9 rfl rfl)
theorem dX8_rankBy_33 : decode cX8_rankBy 33 = .ok (.iaload, 1) := dk_46 (dk_at dksX8_rankBy_1 10 rfl rfl)
theorem dX8_rankBy_34 : decode cX8_rankBy 34 = .ok (.iconst 2, 1) := dk_5 (dk_at dksX8_rankBy_1 11 rfl rfl)
theorem dX8_rankBy_35 : decode cX8_rankBy 35 = .ok (.if_icmp .ne 12, 3) := dk_160 0 12 (dk_at dksX8_rankBy_1 12 rfl rfl)
theorem dX8_rankBy_38 : decode cX8_rankBy 38 = .ok (.iload_n 3, 1) := dk_29 (dk_at dksX8_rankBy_1 15 rfl rfl)
theorem dX8_rankBy_39 : decode cX8_rankBy 39 = .ok (.aload_n 0, 1) := dk_42 (dk_at dksX8_rankBy_1 16 rfl rfl)
theorem dX8_rankBy_40 : decode cX8_rankBy 40 = .ok (.getfield 19, 3) := dk_180 0 19 (dk_at dksX8_rankBy_1 17 rfl rfl)
theorem dX8_rankBy_43 : decode cX8_rankBy 43 = .ok (.iload_n 1, 1) := dk_27 (dk_at dksX8_rankBy_1 20 rfl rfl)
theorem dX8_rankBy_44 : decode cX8_rankBy 44 = .ok (.iaload, 1) := dk_46 (dk_at dksX8_rankBy_1 21 rfl rfl)
theorem dX8_rankBy_45 : decode cX8_rankBy 45 = .ok (.iadd, 1) := dk_96 (dk_at dksX8_rankBy_1 22 rfl rfl)
theorem dX8_rankBy_46 : decode cX8_rankBy 46 = .ok (.ireturn, 1) := dk_172 (dk_at dksX8_rankBy_1 23 rfl rfl)
theorem dX8_rankBy_47 : decode cX8_rankBy 47 = .ok (.iload_n 3, 1) := dk_29 (dk_at dksX8_rankBy_2 0 rfl rfl)
theorem dX8_rankBy_48 : decode cX8_rankBy 48 = .ok (.aload_n 0, 1) := dk_42 (dk_at dksX8_rankBy_2 1 rfl rfl)
theorem dX8_rankBy_49 : decode cX8_rankBy 49 = .ok (.getfield 7, 3) := dk_180 0 7 (dk_at dksX8_rankBy_2 2 rfl rfl)
theorem dX8_rankBy_52 : decode cX8_rankBy 52 = .ok (.iload_n 1, 1) := dk_27 (dk_at dksX8_rankBy_2 5 rfl rfl)
theorem dX8_rankBy_53 : decode cX8_rankBy 53 = .ok (.iaload, 1) := dk_46 (dk_at dksX8_rankBy_2 6 rfl rfl)
theorem dX8_rankBy_54 : decode cX8_rankBy 54 = .ok (.iconst 3, 1) := dk_6 (dk_at dksX8_rankBy_2 7 rfl rfl)
theorem dX8_rankBy_55 : decode cX8_rankBy 55 = .ok (.if_icmp .ne 12, 3) := dk_160 0 12 (dk_at dksX8_rankBy_2 8 rfl rfl)
theorem dX8_rankBy_58 : decode cX8_rankBy 58 = .ok (.aload_n 0, 1) := dk_42 (dk_at dksX8_rankBy_2 11 rfl rfl)
theorem dX8_rankBy_59 : decode cX8_rankBy 59 = .ok (.getfield 19, 3) := dk_180 0 19 (dk_at dksX8_rankBy_2 12 rfl rfl)
theorem dX8_rankBy_62 : decode cX8_rankBy 62 = .ok (.iload_n 1, 1) := dk_27 (dk_at dksX8_rankBy_2 15 rfl rfl)
theorem dX8_rankBy_63 : decode cX8_rankBy 63 = .ok (.iaload, 1) := dk_46 (dk_at dksX8_rankBy_2 16 rfl rfl)
theorem dX8_rankBy_64 : decode cX8_rankBy 64 = .ok (.goto 4, 3) := dk_167 0 4 (dk_at dksX8_rankBy_2 17 rfl rfl)
theorem dX8_rankBy_67 : decode cX8_rankBy 67 = .ok (.iconst 0, 1) := dk_3 (dk_at dksX8_rankBy_2 20 rfl rfl)
theorem dX8_rankBy_68 : decode cX8_rankBy 68 = .ok (.isub, 1) := dk_100 (dk_at dksX8_rankBy_2 21 rfl rfl)
theorem dX8_rankBy_69 : decode cX8_rankBy 69 = .ok (.istore_n 3, 1) := dk_62 (dk_at dksX8_rankBy_2 22 rfl rfl)
theorem dX8_rankBy_70 : decode cX8_rankBy 70 = .ok (.iload_n 3, 1) := dk_29 (dk_at dksX8_rankBy_2 23 rfl rfl)
theorem dX8_rankBy_71 : decode cX8_rankBy 71 = .ok (.ifCond .ge 7, 3) := dk_156 0 7 (dk_at dksX8_rankBy_3 0 rfl rfl)
theorem dX8_rankBy_74 : decode cX8_rankBy 74 = .ok (.iconst 0, 1) := dk_3 (dk_at dksX8_rankBy_3 3 rfl rfl)
theorem dX8_rankBy_75 : decode cX8_rankBy 75 = .ok (.goto 4, 3) := dk_167 0 4 (dk_at dksX8_rankBy_3 4 rfl rfl)
theorem dX8_rankBy_78 : decode cX8_rankBy 78 = .ok (.iload_n 3, 1) := dk_29 (dk_at dksX8_rankBy_3 7 rfl rfl)
theorem dX8_rankBy_79 : decode cX8_rankBy 79 = .ok (.ireturn, 1) := dk_172 (dk_at dksX8_rankBy_3 8 rfl rfl)
abbrev cX8_holderOf : ByteArray := prog_11_method_26_code
def yX8_holderOf : MethodName := ⟨RX8, "holderOf", "(I)I"⟩
def dkwX8_holderOf_2 : List UInt8 := [132, 4, 1, 167, 255, 219, 29, 172]
abbrev dktX8_holderOf_2 : List UInt8 := dkwX8_holderOf_2 ++ []
def dkwX8_holderOf_1 : List UInt8 := [180, 0, 56, 21, 4, 46, 46, 27, 160, 0, 13, 42, 180, 0, 56, 21, 4, 46, 167, 0, 4, 29, 62]
abbrev dktX8_holderOf_1 : List UInt8 := dkwX8_holderOf_1 ++ dktX8_holderOf_2
def dkwX8_holderOf_0 : List UInt8 := [42, 182, 0, 155, 61, 16, 252, 62, 3, 54, 4, 21, 4, 28, 162, 0, 37, 42, 180, 0, 53, 42]
abbrev dktX8_holderOf_0 : List UInt8 := dkwX8_holderOf_0 ++ dktX8_holderOf_1
theorem dksX8_holderOf_0 : cX8_holderOf.data.toList.drop 0 = dktX8_holderOf_0 := by decide +kernel
theorem dksX8_holderOf_1 : cX8_holderOf.data.toList.drop 22 = dktX8_holderOf_1 := dk_seg dksX8_holderOf_0 22 rfl rfl
theorem dksX8_holderOf_2 : cX8_holderOf.data.toList.drop 45 = dktX8_holderOf_2 := dk_seg dksX8_holderOf_1 23 rfl rfl
theorem dX8_holderOf_0 : decode cX8_holderOf 0 = .ok (.aload_n 0, 1) := dk_42 (dk_at dksX8_holderOf_0 0 rfl rfl)
theorem dX8_holderOf_1 : decode cX8_holderOf 1 = .ok (.invokevirtual 155, 3) := dk_182 0 155 (dk_at dksX8_holderOf_0 1 rfl rfl)
theorem dX8_holderOf_4 : decode cX8_holderOf 4 = .ok (.istore_n 2, 1) := dk_61 (dk_at dksX8_holderOf_0 4 rfl rfl)
theorem dX8_holderOf_5 : decode cX8_holderOf 5 = .ok (.bipush (-4), 2) := dk_16 252 (dk_at dksX8_holderOf_0 5 rfl rfl)
theorem dX8_holderOf_7 : decode cX8_holderOf 7 = .ok (.istore_n 3, 1) := dk_62 (dk_at dksX8_holderOf_0 7 rfl rfl)
theorem dX8_holderOf_8 : decode cX8_holderOf 8 = .ok (.iconst 0, 1) := dk_3 (dk_at dksX8_holderOf_0 8 rfl rfl)
theorem dX8_holderOf_9 : decode cX8_holderOf 9 = .ok (.istore 4, 2) := dk_54 4 (dk_at dksX8_holderOf_0 9 rfl rfl)
theorem dX8_holderOf_11 : decode cX8_holderOf 11 = .ok (.iload 4, 2) := dk_21 4 (dk_at dksX8_holderOf_0 11 rfl rfl)
theorem dX8_holderOf_13 : decode cX8_holderOf 13 = .ok (.iload_n 2, 1) := dk_28 (dk_at dksX8_holderOf_0 13 rfl rfl)
theorem dX8_holderOf_14 : decode cX8_holderOf 14 = .ok (.if_icmp .ge 37, 3) := dk_162 0 37 (dk_at dksX8_holderOf_0 14 rfl rfl)
theorem dX8_holderOf_17 : decode cX8_holderOf 17 = .ok (.aload_n 0, 1) := dk_42 (dk_at dksX8_holderOf_0 17 rfl rfl)
theorem dX8_holderOf_18 : decode cX8_holderOf 18 = .ok (.getfield 53, 3) := dk_180 0 53 (dk_at dksX8_holderOf_0 18 rfl rfl)
theorem dX8_holderOf_21 : decode cX8_holderOf 21 = .ok (.aload_n 0, 1) := dk_42 (dk_at dksX8_holderOf_0 21 rfl rfl)
theorem dX8_holderOf_22 : decode cX8_holderOf 22 = .ok (.getfield 56, 3) := dk_180 0 56 (dk_at dksX8_holderOf_1 0 rfl rfl)
theorem dX8_holderOf_25 : decode cX8_holderOf 25 = .ok (.iload 4, 2) := dk_21 4 (dk_at dksX8_holderOf_1 3 rfl rfl)
theorem dX8_holderOf_27 : decode cX8_holderOf 27 = .ok (.iaload, 1) := dk_46 (dk_at dksX8_holderOf_1 5 rfl rfl)
theorem dX8_holderOf_28 : decode cX8_holderOf 28 = .ok (.iaload, 1) := dk_46 (dk_at dksX8_holderOf_1 6 rfl rfl)
theorem dX8_holderOf_29 : decode cX8_holderOf 29 = .ok (.iload_n 1, 1) := dk_27 (dk_at dksX8_holderOf_1 7 rfl rfl)
theorem dX8_holderOf_30 : decode cX8_holderOf 30 = .ok (.if_icmp .ne 13, 3) := dk_160 0 13 (dk_at dksX8_holderOf_1 8 rfl rfl)
theorem dX8_holderOf_33 : decode cX8_holderOf 33 = .ok (.aload_n 0, 1) := dk_42 (dk_at dksX8_holderOf_1 11 rfl rfl)
theorem dX8_holderOf_34 : decode cX8_holderOf 34 = .ok (.getfield 56, 3) := dk_180 0 56 (dk_at dksX8_holderOf_1 12 rfl rfl)
theorem dX8_holderOf_37 : decode cX8_holderOf 37 = .ok (.iload 4, 2) := dk_21 4 (dk_at dksX8_holderOf_1 15 rfl rfl)
theorem dX8_holderOf_39 : decode cX8_holderOf 39 = .ok (.iaload, 1) := dk_46 (dk_at dksX8_holderOf_1 17 rfl rfl)
theorem dX8_holderOf_40 : decode cX8_holderOf 40 = .ok (.goto 4, 3) := dk_167 0 4 (dk_at dksX8_holderOf_1 18 rfl rfl)
theorem dX8_holderOf_43 : decode cX8_holderOf 43 = .ok (.iload_n 3, 1) := dk_29 (dk_at dksX8_holderOf_1 21 rfl rfl)
theorem dX8_holderOf_44 : decode cX8_holderOf 44 = .ok (.istore_n 3, 1) := dk_62 (dk_at dksX8_holderOf_1 22 rfl rfl)
theorem dX8_holderOf_45 : decode cX8_holderOf 45 = .ok (.iinc 4 1, 3) := dk_132 4 1 (dk_at dksX8_holderOf_2 0 rfl rfl)
theorem dX8_holderOf_48 : decode cX8_holderOf 48 = .ok (.goto (-37), 3) := dk_167 255 219 (dk_at dksX8_holderOf_2 3 rfl rfl)
theorem dX8_holderOf_51 : decode cX8_holderOf 51 = .ok (.iload_n 3, 1) := dk_29 (dk_at dksX8_holderOf_2 6 rfl rfl)
theorem dX8_holderOf_52 : decode cX8_holderOf 52 = .ok (.ireturn, 1) := dk_172 (dk_at dksX8_holderOf_2 7 rfl rfl)
abbrev cX8_setHolds : ByteArray := prog_11_method_25_code
def yX8_setHolds : MethodName := ⟨RX8, "setHolds", "()I"⟩
def dkwX8_setHolds_5 : List UInt8 := [180, 0, 26, 21, 4, 46, 79, 132, 2, 2, 167, 255, 144, 27, 172]
abbrev dktX8_setHolds_5 : List UInt8 := dkwX8_setHolds_5 ++ []
def dkwX8_setHolds_4 : List UInt8 := [154, 0, 34, 42, 180, 0, 59, 28, 42, 180, 0, 29, 21, 4, 46, 79, 42, 180, 0, 59, 28, 4, 96, 42]
abbrev dktX8_setHolds_4 : List UInt8 := dkwX8_setHolds_4 ++ dktX8_setHolds_5
def dkwX8_setHolds_3 : List UInt8 := [160, 0, 7, 3, 167, 0, 12, 4, 42, 180, 0, 53, 21, 4, 46, 120, 128, 62, 42, 21, 4, 182, 0, 113]
abbrev dktX8_setHolds_3 : List UInt8 := dkwX8_setHolds_3 ++ dktX8_setHolds_4
def dkwX8_setHolds_2 : List UInt8 := [42, 42, 21, 4, 182, 0, 117, 29, 182, 0, 152, 79, 29, 42, 180, 0, 53, 21, 4, 46, 16, 252]
abbrev dktX8_setHolds_2 : List UInt8 := dkwX8_setHolds_2 ++ dktX8_setHolds_3
def dkwX8_setHolds_1 : List UInt8 := [180, 0, 59, 28, 46, 54, 4, 42, 180, 0, 56, 27, 21, 4, 79, 132, 1, 1, 42, 180, 0, 53, 21, 4]
abbrev dktX8_setHolds_1 : List UInt8 := dkwX8_setHolds_1 ++ dktX8_setHolds_2
def dkwX8_setHolds_0 : List UInt8 := [3, 60, 4, 61, 42, 180, 0, 59, 3, 42, 180, 0, 22, 79, 3, 62, 28, 158, 0, 114, 132, 2, 255, 42]
abbrev dktX8_setHolds_0 : List UInt8 := dkwX8_setHolds_0 ++ dktX8_setHolds_1
theorem dksX8_setHolds_0 : cX8_setHolds.data.toList.drop 0 = dktX8_setHolds_0 := by decide +kernel
theorem dksX8_setHolds_1 : cX8_setHolds.data.toList.drop 24 = dktX8_setHolds_1 := dk_seg dksX8_setHolds_0 24 rfl rfl
theorem dksX8_setHolds_2 : cX8_setHolds.data.toList.drop 48 = dktX8_setHolds_2 := dk_seg dksX8_setHolds_1 24 rfl rfl
theorem dksX8_setHolds_3 : cX8_setHolds.data.toList.drop 70 = dktX8_setHolds_3 := dk_seg dksX8_setHolds_2 22 rfl rfl
theorem dksX8_setHolds_4 : cX8_setHolds.data.toList.drop 94 = dktX8_setHolds_4 := dk_seg dksX8_setHolds_3 24 rfl rfl
theorem dksX8_setHolds_5 : cX8_setHolds.data.toList.drop 118 = dktX8_setHolds_5 := dk_seg dksX8_setHolds_4 24 rfl rfl
theorem dX8_setHolds_0 : decode cX8_setHolds 0 = .ok (.iconst 0, 1) := dk_3 (dk_at dksX8_setHolds_0 0 rfl rfl)
theorem dX8_setHolds_1 : decode cX8_setHolds 1 = .ok (.istore_n 1, 1) := dk_60 (dk_at dksX8_setHolds_0 1 rfl rfl)
theorem dX8_setHolds_2 : decode cX8_setHolds 2 = .ok (.iconst 1, 1) := dk_4 (dk_at dksX8_setHolds_0 2 rfl rfl)
theorem dX8_setHolds_3 : decode cX8_setHolds 3 = .ok (.istore_n 2, 1) := dk_61 (dk_at dksX8_setHolds_0 3 rfl rfl)
theorem dX8_setHolds_4 : decode cX8_setHolds 4 = .ok (.aload_n 0, 1) := dk_42 (dk_at dksX8_setHolds_0 4 rfl rfl)
theorem dX8_setHolds_5 : decode cX8_setHolds 5 = .ok (.getfield 59, 3) := dk_180 0 59 (dk_at dksX8_setHolds_0 5 rfl rfl)
theorem dX8_setHolds_8 : decode cX8_setHolds 8 = .ok (.iconst 0, 1) := dk_3 (dk_at dksX8_setHolds_0 8 rfl rfl)
theorem dX8_setHolds_9 : decode cX8_setHolds 9 = .ok (.aload_n 0, 1) := dk_42 (dk_at dksX8_setHolds_0 9 rfl rfl)
theorem dX8_setHolds_10 : decode cX8_setHolds 10 = .ok (.getfield 22, 3) := dk_180 0 22 (dk_at dksX8_setHolds_0 10 rfl rfl)
theorem dX8_setHolds_13 : decode cX8_setHolds 13 = .ok (.iastore, 1) := dk_79 (dk_at dksX8_setHolds_0 13 rfl rfl)
theorem dX8_setHolds_14 : decode cX8_setHolds 14 = .ok (.iconst 0, 1) := dk_3 (dk_at dksX8_setHolds_0 14 rfl rfl)
theorem dX8_setHolds_15 : decode cX8_setHolds 15 = .ok (.istore_n 3, 1) := dk_62 (dk_at dksX8_setHolds_0 15 rfl rfl)
theorem dX8_setHolds_16 : decode cX8_setHolds 16 = .ok (.iload_n 2, 1) := dk_28 (dk_at dksX8_setHolds_0 16 rfl rfl)
theorem dX8_setHolds_17 : decode cX8_setHolds 17 = .ok (.ifCond .le 114, 3) := dk_158 0 114 (dk_at dksX8_setHolds_0 17 rfl rfl)
theorem dX8_setHolds_20 : decode cX8_setHolds 20 = .ok (.iinc 2 (-1), 3) := dk_132 2 255 (dk_at dksX8_setHolds_0 20 rfl rfl)
theorem dX8_setHolds_23 : decode cX8_setHolds 23 = .ok (.aload_n 0, 1) := dk_42 (dk_at dksX8_setHolds_0 23 rfl rfl)
theorem dX8_setHolds_24 : decode cX8_setHolds 24 = .ok (.getfield 59, 3) := dk_180 0 59 (dk_at dksX8_setHolds_1 0 rfl rfl)
theorem dX8_setHolds_27 : decode cX8_setHolds 27 = .ok (.iload_n 2, 1) := dk_28 (dk_at dksX8_setHolds_1 3 rfl rfl)
theorem dX8_setHolds_28 : decode cX8_setHolds 28 = .ok (.iaload, 1) := dk_46 (dk_at dksX8_setHolds_1 4 rfl rfl)
theorem dX8_setHolds_29 : decode cX8_setHolds 29 = .ok (.istore 4, 2) := dk_54 4 (dk_at dksX8_setHolds_1 5 rfl rfl)
theorem dX8_setHolds_31 : decode cX8_setHolds 31 = .ok (.aload_n 0, 1) := dk_42 (dk_at dksX8_setHolds_1 7 rfl rfl)
theorem dX8_setHolds_32 : decode cX8_setHolds 32 = .ok (.getfield 56, 3) := dk_180 0 56 (dk_at dksX8_setHolds_1 8 rfl rfl)
theorem dX8_setHolds_35 : decode cX8_setHolds 35 = .ok (.iload_n 1, 1) := dk_27 (dk_at dksX8_setHolds_1 11 rfl rfl)
theorem dX8_setHolds_36 : decode cX8_setHolds 36 = .ok (.iload 4, 2) := dk_21 4 (dk_at dksX8_setHolds_1 12 rfl rfl)
theorem dX8_setHolds_38 : decode cX8_setHolds 38 = .ok (.iastore, 1) := dk_79 (dk_at dksX8_setHolds_1 14 rfl rfl)
theorem dX8_setHolds_39 : decode cX8_setHolds 39 = .ok (.iinc 1 1, 3) := dk_132 1 1 (dk_at dksX8_setHolds_1 15 rfl rfl)
theorem dX8_setHolds_42 : decode cX8_setHolds 42 = .ok (.aload_n 0, 1) := dk_42 (dk_at dksX8_setHolds_1 18 rfl rfl)
theorem dX8_setHolds_43 : decode cX8_setHolds 43 = .ok (.getfield 53, 3) := dk_180 0 53 (dk_at dksX8_setHolds_1 19 rfl rfl)
theorem dX8_setHolds_46 : decode cX8_setHolds 46 = .ok (.iload 4, 2) := dk_21 4 (dk_at dksX8_setHolds_1 22 rfl rfl)
theorem dX8_setHolds_48 : decode cX8_setHolds 48 = .ok (.aload_n 0, 1) := dk_42 (dk_at dksX8_setHolds_2 0 rfl rfl)
theorem dX8_setHolds_49 : decode cX8_setHolds 49 = .ok (.aload_n 0, 1) := dk_42 (dk_at dksX8_setHolds_2 1 rfl rfl)
theorem dX8_setHolds_50 : decode cX8_setHolds 50 = .ok (.iload 4, 2) := dk_21 4 (dk_at dksX8_setHolds_2 2 rfl rfl)
theorem dX8_setHolds_52 : decode cX8_setHolds 52 = .ok (.invokevirtual 117, 3) := dk_182 0 117 (dk_at dksX8_setHolds_2 4 rfl rfl)
theorem dX8_setHolds_55 : decode cX8_setHolds 55 = .ok (.iload_n 3, 1) := dk_29 (dk_at dksX8_setHolds_2 7 rfl rfl)
theorem dX8_setHolds_56 : decode cX8_setHolds 56 = .ok (.invokevirtual 152, 3) := dk_182 0 152 (dk_at dksX8_setHolds_2 8 rfl rfl)
theorem dX8_setHolds_59 : decode cX8_setHolds 59 = .ok (.iastore, 1) := dk_79 (dk_at dksX8_setHolds_2 11 rfl rfl)
theorem dX8_setHolds_60 : decode cX8_setHolds 60 = .ok (.iload_n 3, 1) := dk_29 (dk_at dksX8_setHolds_2 12 rfl rfl)
theorem dX8_setHolds_61 : decode cX8_setHolds 61 = .ok (.aload_n 0, 1) := dk_42 (dk_at dksX8_setHolds_2 13 rfl rfl)
theorem dX8_setHolds_62 : decode cX8_setHolds 62 = .ok (.getfield 53, 3) := dk_180 0 53 (dk_at dksX8_setHolds_2 14 rfl rfl)
theorem dX8_setHolds_65 : decode cX8_setHolds 65 = .ok (.iload 4, 2) := dk_21 4 (dk_at dksX8_setHolds_2 17 rfl rfl)
theorem dX8_setHolds_67 : decode cX8_setHolds 67 = .ok (.iaload, 1) := dk_46 (dk_at dksX8_setHolds_2 19 rfl rfl)
theorem dX8_setHolds_68 : decode cX8_setHolds 68 = .ok (.bipush (-4), 2) := dk_16 252 (dk_at dksX8_setHolds_2 20 rfl rfl)
theorem dX8_setHolds_70 : decode cX8_setHolds 70 = .ok (.if_icmp .ne 7, 3) := dk_160 0 7 (dk_at dksX8_setHolds_3 0 rfl rfl)
theorem dX8_setHolds_73 : decode cX8_setHolds 73 = .ok (.iconst 0, 1) := dk_3 (dk_at dksX8_setHolds_3 3 rfl rfl)
theorem dX8_setHolds_74 : decode cX8_setHolds 74 = .ok (.goto 12, 3) := dk_167 0 12 (dk_at dksX8_setHolds_3 4 rfl rfl)
theorem dX8_setHolds_77 : decode cX8_setHolds 77 = .ok (.iconst 1, 1) := dk_4 (dk_at dksX8_setHolds_3 7 rfl rfl)
theorem dX8_setHolds_78 : decode cX8_setHolds 78 = .ok (.aload_n 0, 1) := dk_42 (dk_at dksX8_setHolds_3 8 rfl rfl)
theorem dX8_setHolds_79 : decode cX8_setHolds 79 = .ok (.getfield 53, 3) := dk_180 0 53 (dk_at dksX8_setHolds_3 9 rfl rfl)
theorem dX8_setHolds_82 : decode cX8_setHolds 82 = .ok (.iload 4, 2) := dk_21 4 (dk_at dksX8_setHolds_3 12 rfl rfl)
theorem dX8_setHolds_84 : decode cX8_setHolds 84 = .ok (.iaload, 1) := dk_46 (dk_at dksX8_setHolds_3 14 rfl rfl)
theorem dX8_setHolds_85 : decode cX8_setHolds 85 = .ok (.ishl, 1) := dk_120 (dk_at dksX8_setHolds_3 15 rfl rfl)
theorem dX8_setHolds_86 : decode cX8_setHolds 86 = .ok (.ior, 1) := dk_128 (dk_at dksX8_setHolds_3 16 rfl rfl)
theorem dX8_setHolds_87 : decode cX8_setHolds 87 = .ok (.istore_n 3, 1) := dk_62 (dk_at dksX8_setHolds_3 17 rfl rfl)
theorem dX8_setHolds_88 : decode cX8_setHolds 88 = .ok (.aload_n 0, 1) := dk_42 (dk_at dksX8_setHolds_3 18 rfl rfl)
theorem dX8_setHolds_89 : decode cX8_setHolds 89 = .ok (.iload 4, 2) := dk_21 4 (dk_at dksX8_setHolds_3 19 rfl rfl)
theorem dX8_setHolds_91 : decode cX8_setHolds 91 = .ok (.invokevirtual 113, 3) := dk_182 0 113 (dk_at dksX8_setHolds_3 21 rfl rfl)
theorem dX8_setHolds_94 : decode cX8_setHolds 94 = .ok (.ifCond .ne 34, 3) := dk_154 0 34 (dk_at dksX8_setHolds_4 0 rfl rfl)
theorem dX8_setHolds_97 : decode cX8_setHolds 97 = .ok (.aload_n 0, 1) := dk_42 (dk_at dksX8_setHolds_4 3 rfl rfl)
theorem dX8_setHolds_98 : decode cX8_setHolds 98 = .ok (.getfield 59, 3) := dk_180 0 59 (dk_at dksX8_setHolds_4 4 rfl rfl)
theorem dX8_setHolds_101 : decode cX8_setHolds 101 = .ok (.iload_n 2, 1) := dk_28 (dk_at dksX8_setHolds_4 7 rfl rfl)
theorem dX8_setHolds_102 : decode cX8_setHolds 102 = .ok (.aload_n 0, 1) := dk_42 (dk_at dksX8_setHolds_4 8 rfl rfl)
theorem dX8_setHolds_103 : decode cX8_setHolds 103 = .ok (.getfield 29, 3) := dk_180 0 29 (dk_at dksX8_setHolds_4 9 rfl rfl)
theorem dX8_setHolds_106 : decode cX8_setHolds 106 = .ok (.iload 4, 2) := dk_21 4 (dk_at dksX8_setHolds_4 12 rfl rfl)
theorem dX8_setHolds_108 : decode cX8_setHolds 108 = .ok (.iaload, 1) := dk_46 (dk_at dksX8_setHolds_4 14 rfl rfl)
theorem dX8_setHolds_109 : decode cX8_setHolds 109 = .ok (.iastore, 1) := dk_79 (dk_at dksX8_setHolds_4 15 rfl rfl)
theorem dX8_setHolds_110 : decode cX8_setHolds 110 = .ok (.aload_n 0, 1) := dk_42 (dk_at dksX8_setHolds_4 16 rfl rfl)
theorem dX8_setHolds_111 : decode cX8_setHolds 111 = .ok (.getfield 59, 3) := dk_180 0 59 (dk_at dksX8_setHolds_4 17 rfl rfl)
theorem dX8_setHolds_114 : decode cX8_setHolds 114 = .ok (.iload_n 2, 1) := dk_28 (dk_at dksX8_setHolds_4 20 rfl rfl)
theorem dX8_setHolds_115 : decode cX8_setHolds 115 = .ok (.iconst 1, 1) := dk_4 (dk_at dksX8_setHolds_4 21 rfl rfl)
theorem dX8_setHolds_116 : decode cX8_setHolds 116 = .ok (.iadd, 1) := dk_96 (dk_at dksX8_setHolds_4 22 rfl rfl)
theorem dX8_setHolds_117 : decode cX8_setHolds 117 = .ok (.aload_n 0, 1) := dk_42 (dk_at dksX8_setHolds_4 23 rfl rfl)
theorem dX8_setHolds_118 : decode cX8_setHolds 118 = .ok (.getfield 26, 3) := dk_180 0 26 (dk_at dksX8_setHolds_5 0 rfl rfl)
theorem dX8_setHolds_121 : decode cX8_setHolds 121 = .ok (.iload 4, 2) := dk_21 4 (dk_at dksX8_setHolds_5 3 rfl rfl)
theorem dX8_setHolds_123 : decode cX8_setHolds 123 = .ok (.iaload, 1) := dk_46 (dk_at dksX8_setHolds_5 5 rfl rfl)
theorem dX8_setHolds_124 : decode cX8_setHolds 124 = .ok (.iastore, 1) := dk_79 (dk_at dksX8_setHolds_5 6 rfl rfl)
theorem dX8_setHolds_125 : decode cX8_setHolds 125 = .ok (.iinc 2 2, 3) := dk_132 2 2 (dk_at dksX8_setHolds_5 7 rfl rfl)
theorem dX8_setHolds_128 : decode cX8_setHolds 128 = .ok (.goto (-112), 3) := dk_167 255 144 (dk_at dksX8_setHolds_5 10 rfl rfl)
theorem dX8_setHolds_131 : decode cX8_setHolds 131 = .ok (.iload_n 1, 1) := dk_27 (dk_at dksX8_setHolds_5 13 rfl rfl)
theorem dX8_setHolds_132 : decode cX8_setHolds 132 = .ok (.ireturn, 1) := dk_172 (dk_at dksX8_setHolds_5 14 rfl rfl)
abbrev cX8_dueOf : ByteArray := prog_11_method_24_code
def yX8_dueOf : MethodName := ⟨RX8, "dueOf", "(II)I"⟩
def dkwX8_dueOf_2 : List UInt8 := [46, 167, 0, 4, 29, 62, 132, 4, 1, 167, 255, 206, 29, 172]
abbrev dktX8_dueOf_2 : List UInt8 := dkwX8_dueOf_2 ++ []
def dkwX8_dueOf_1 : List UInt8 := [154, 0, 28, 42, 42, 180, 0, 44, 21, 4, 46, 29, 182, 0, 149, 153, 0, 13, 42, 180, 0, 44, 21, 4]
abbrev dktX8_dueOf_1 : List UInt8 := dkwX8_dueOf_1 ++ dktX8_dueOf_2
def dkwX8_dueOf_0 : List UInt8 := [16, 252, 62, 3, 54, 4, 21, 4, 27, 162, 0, 50, 28, 42, 180, 0, 44, 21, 4, 46, 184, 0, 97]
abbrev dktX8_dueOf_0 : List UInt8 := dkwX8_dueOf_0 ++ dktX8_dueOf_1
theorem dksX8_dueOf_0 : cX8_dueOf.data.toList.drop 0 = dktX8_dueOf_0 := by decide +kernel
theorem dksX8_dueOf_1 : cX8_dueOf.data.toList.drop 23 = dktX8_dueOf_1 := dk_seg dksX8_dueOf_0 23 rfl rfl
theorem dksX8_dueOf_2 : cX8_dueOf.data.toList.drop 47 = dktX8_dueOf_2 := dk_seg dksX8_dueOf_1 24 rfl rfl
theorem dX8_dueOf_0 : decode cX8_dueOf 0 = .ok (.bipush (-4), 2) := dk_16 252 (dk_at dksX8_dueOf_0 0 rfl rfl)
theorem dX8_dueOf_2 : decode cX8_dueOf 2 = .ok (.istore_n 3, 1) := dk_62 (dk_at dksX8_dueOf_0 2 rfl rfl)
theorem dX8_dueOf_3 : decode cX8_dueOf 3 = .ok (.iconst 0, 1) := dk_3 (dk_at dksX8_dueOf_0 3 rfl rfl)
theorem dX8_dueOf_4 : decode cX8_dueOf 4 = .ok (.istore 4, 2) := dk_54 4 (dk_at dksX8_dueOf_0 4 rfl rfl)
theorem dX8_dueOf_6 : decode cX8_dueOf 6 = .ok (.iload 4, 2) := dk_21 4 (dk_at dksX8_dueOf_0 6 rfl rfl)
theorem dX8_dueOf_8 : decode cX8_dueOf 8 = .ok (.iload_n 1, 1) := dk_27 (dk_at dksX8_dueOf_0 8 rfl rfl)
theorem dX8_dueOf_9 : decode cX8_dueOf 9 = .ok (.if_icmp .ge 50, 3) := dk_162 0 50 (dk_at dksX8_dueOf_0 9 rfl rfl)
theorem dX8_dueOf_12 : decode cX8_dueOf 12 = .ok (.iload_n 2, 1) := dk_28 (dk_at dksX8_dueOf_0 12 rfl rfl)
theorem dX8_dueOf_13 : decode cX8_dueOf 13 = .ok (.aload_n 0, 1) := dk_42 (dk_at dksX8_dueOf_0 13 rfl rfl)
theorem dX8_dueOf_14 : decode cX8_dueOf 14 = .ok (.getfield 44, 3) := dk_180 0 44 (dk_at dksX8_dueOf_0 14 rfl rfl)
theorem dX8_dueOf_17 : decode cX8_dueOf 17 = .ok (.iload 4, 2) := dk_21 4 (dk_at dksX8_dueOf_0 17 rfl rfl)
theorem dX8_dueOf_19 : decode cX8_dueOf 19 = .ok (.iaload, 1) := dk_46 (dk_at dksX8_dueOf_0 19 rfl rfl)
theorem dX8_dueOf_20 : decode cX8_dueOf 20 = .ok (.invokestatic 97, 3) := dk_184 0 97 (dk_at dksX8_dueOf_0 20 rfl rfl)
theorem dX8_dueOf_23 : decode cX8_dueOf 23 = .ok (.ifCond .ne 28, 3) := dk_154 0 28 (dk_at dksX8_dueOf_1 0 rfl rfl)
theorem dX8_dueOf_26 : decode cX8_dueOf 26 = .ok (.aload_n 0, 1) := dk_42 (dk_at dksX8_dueOf_1 3 rfl rfl)
theorem dX8_dueOf_27 : decode cX8_dueOf 27 = .ok (.aload_n 0, 1) := dk_42 (dk_at dksX8_dueOf_1 4 rfl rfl)
theorem dX8_dueOf_28 : decode cX8_dueOf 28 = .ok (.getfield 44, 3) := dk_180 0 44 (dk_at dksX8_dueOf_1 5 rfl rfl)
theorem dX8_dueOf_31 : decode cX8_dueOf 31 = .ok (.iload 4, 2) := dk_21 4 (dk_at dksX8_dueOf_1 8 rfl rfl)
theorem dX8_dueOf_33 : decode cX8_dueOf 33 = .ok (.iaload, 1) := dk_46 (dk_at dksX8_dueOf_1 10 rfl rfl)
theorem dX8_dueOf_34 : decode cX8_dueOf 34 = .ok (.iload_n 3, 1) := dk_29 (dk_at dksX8_dueOf_1 11 rfl rfl)
theorem dX8_dueOf_35 : decode cX8_dueOf 35 = .ok (.invokevirtual 149, 3) := dk_182 0 149 (dk_at dksX8_dueOf_1 12 rfl rfl)
theorem dX8_dueOf_38 : decode cX8_dueOf 38 = .ok (.ifCond .eq 13, 3) := dk_153 0 13 (dk_at dksX8_dueOf_1 15 rfl rfl)
theorem dX8_dueOf_41 : decode cX8_dueOf 41 = .ok (.aload_n 0, 1) := dk_42 (dk_at dksX8_dueOf_1 18 rfl rfl)
theorem dX8_dueOf_42 : decode cX8_dueOf 42 = .ok (.getfield 44, 3) := dk_180 0 44 (dk_at dksX8_dueOf_1 19 rfl rfl)
theorem dX8_dueOf_45 : decode cX8_dueOf 45 = .ok (.iload 4, 2) := dk_21 4 (dk_at dksX8_dueOf_1 22 rfl rfl)
theorem dX8_dueOf_47 : decode cX8_dueOf 47 = .ok (.iaload, 1) := dk_46 (dk_at dksX8_dueOf_2 0 rfl rfl)
theorem dX8_dueOf_48 : decode cX8_dueOf 48 = .ok (.goto 4, 3) := dk_167 0 4 (dk_at dksX8_dueOf_2 1 rfl rfl)
theorem dX8_dueOf_51 : decode cX8_dueOf 51 = .ok (.iload_n 3, 1) := dk_29 (dk_at dksX8_dueOf_2 4 rfl rfl)
theorem dX8_dueOf_52 : decode cX8_dueOf 52 = .ok (.istore_n 3, 1) := dk_62 (dk_at dksX8_dueOf_2 5 rfl rfl)
theorem dX8_dueOf_53 : decode cX8_dueOf 53 = .ok (.iinc 4 1, 3) := dk_132 4 1 (dk_at dksX8_dueOf_2 6 rfl rfl)
theorem dX8_dueOf_56 : decode cX8_dueOf 56 = .ok (.goto (-50), 3) := dk_167 255 206 (dk_at dksX8_dueOf_2 9 rfl rfl)
theorem dX8_dueOf_59 : decode cX8_dueOf 59 = .ok (.iload_n 3, 1) := dk_29 (dk_at dksX8_dueOf_2 12 rfl rfl)
theorem dX8_dueOf_60 : decode cX8_dueOf 60 = .ok (.ireturn, 1) := dk_172 (dk_at dksX8_dueOf_2 13 rfl rfl)
abbrev cX8_isDue : ByteArray := prog_11_method_23_code
def yX8_isDue : MethodName := ⟨RX8, "isDue", "(II)Z"⟩
def dkwX8_isDue_1 : List UInt8 := [42, 28, 182, 0, 146, 160, 0, 12, 27, 28, 162, 0, 7, 4, 167, 0, 4, 3, 172]
abbrev dktX8_isDue_1 : List UInt8 := dkwX8_isDue_1 ++ []
def dkwX8_isDue_0 : List UInt8 := [28, 16, 252, 159, 0, 34, 42, 27, 182, 0, 146, 42, 28, 182, 0, 146, 161, 0, 21, 42, 27, 182, 0, 146]
abbrev dktX8_isDue_0 : List UInt8 := dkwX8_isDue_0 ++ dktX8_isDue_1
theorem dksX8_isDue_0 : cX8_isDue.data.toList.drop 0 = dktX8_isDue_0 := by decide +kernel
theorem dksX8_isDue_1 : cX8_isDue.data.toList.drop 24 = dktX8_isDue_1 := dk_seg dksX8_isDue_0 24 rfl rfl
theorem dX8_isDue_0 : decode cX8_isDue 0 = .ok (.iload_n 2, 1) := dk_28 (dk_at dksX8_isDue_0 0 rfl rfl)
theorem dX8_isDue_1 : decode cX8_isDue 1 = .ok (.bipush (-4), 2) := dk_16 252 (dk_at dksX8_isDue_0 1 rfl rfl)
theorem dX8_isDue_3 : decode cX8_isDue 3 = .ok (.if_icmp .eq 34, 3) := dk_159 0 34 (dk_at dksX8_isDue_0 3 rfl rfl)
theorem dX8_isDue_6 : decode cX8_isDue 6 = .ok (.aload_n 0, 1) := dk_42 (dk_at dksX8_isDue_0 6 rfl rfl)
theorem dX8_isDue_7 : decode cX8_isDue 7 = .ok (.iload_n 1, 1) := dk_27 (dk_at dksX8_isDue_0 7 rfl rfl)
theorem dX8_isDue_8 : decode cX8_isDue 8 = .ok (.invokevirtual 146, 3) := dk_182 0 146 (dk_at dksX8_isDue_0 8 rfl rfl)
theorem dX8_isDue_11 : decode cX8_isDue 11 = .ok (.aload_n 0, 1) := dk_42 (dk_at dksX8_isDue_0 11 rfl rfl)
theorem dX8_isDue_12 : decode cX8_isDue 12 = .ok (.iload_n 2, 1) := dk_28 (dk_at dksX8_isDue_0 12 rfl rfl)
theorem dX8_isDue_13 : decode cX8_isDue 13 = .ok (.invokevirtual 146, 3) := dk_182 0 146 (dk_at dksX8_isDue_0 13 rfl rfl)
theorem dX8_isDue_16 : decode cX8_isDue 16 = .ok (.if_icmp .lt 21, 3) := dk_161 0 21 (dk_at dksX8_isDue_0 16 rfl rfl)
theorem dX8_isDue_19 : decode cX8_isDue 19 = .ok (.aload_n 0, 1) := dk_42 (dk_at dksX8_isDue_0 19 rfl rfl)
theorem dX8_isDue_20 : decode cX8_isDue 20 = .ok (.iload_n 1, 1) := dk_27 (dk_at dksX8_isDue_0 20 rfl rfl)
theorem dX8_isDue_21 : decode cX8_isDue 21 = .ok (.invokevirtual 146, 3) := dk_182 0 146 (dk_at dksX8_isDue_0 21 rfl rfl)
theorem dX8_isDue_24 : decode cX8_isDue 24 = .ok (.aload_n 0, 1) := dk_42 (dk_at dksX8_isDue_1 0 rfl rfl)
theorem dX8_isDue_25 : decode cX8_isDue 25 = .ok (.iload_n 2, 1) := dk_28 (dk_at dksX8_isDue_1 1 rfl rfl)
theorem dX8_isDue_26 : decode cX8_isDue 26 = .ok (.invokevirtual 146, 3) := dk_182 0 146 (dk_at dksX8_isDue_1 2 rfl rfl)
theorem dX8_isDue_29 : decode cX8_isDue 29 = .ok (.if_icmp .ne 12, 3) := dk_160 0 12 (dk_at dksX8_isDue_1 5 rfl rfl)
theorem dX8_isDue_32 : decode cX8_isDue 32 = .ok (.iload_n 1, 1) := dk_27 (dk_at dksX8_isDue_1 8 rfl rfl)
theorem dX8_isDue_33 : decode cX8_isDue 33 = .ok (.iload_n 2, 1) := dk_28 (dk_at dksX8_isDue_1 9 rfl rfl)
theorem dX8_isDue_34 : decode cX8_isDue 34 = .ok (.if_icmp .ge 7, 3) := dk_162 0 7 (dk_at dksX8_isDue_1 10 rfl rfl)
theorem dX8_isDue_37 : decode cX8_isDue 37 = .ok (.iconst 1, 1) := dk_4 (dk_at dksX8_isDue_1 13 rfl rfl)
theorem dX8_isDue_38 : decode cX8_isDue 38 = .ok (.goto 4, 3) := dk_167 0 4 (dk_at dksX8_isDue_1 14 rfl rfl)
theorem dX8_isDue_41 : decode cX8_isDue 41 = .ok (.iconst 0, 1) := dk_3 (dk_at dksX8_isDue_1 17 rfl rfl)
theorem dX8_isDue_42 : decode cX8_isDue 42 = .ok (.ireturn, 1) := dk_172 (dk_at dksX8_isDue_1 18 rfl rfl)
abbrev cX8_deepOf : ByteArray := prog_11_method_14_code
def yX8_deepOf : MethodName := ⟨RX8, "deepOf", "(I)I"⟩
def dkwX8_deepOf_1 : List UInt8 := [167, 255, 241, 28, 172]
abbrev dktX8_deepOf_1 : List UInt8 := dkwX8_deepOf_1 ++ []
def dkwX8_deepOf_0 : List UInt8 := [3, 61, 42, 27, 182, 0, 109, 62, 29, 16, 252, 159, 0, 15, 132, 2, 1, 42, 29, 182, 0, 109, 62]
abbrev dktX8_deepOf_0 : List UInt8 := dkwX8_deepOf_0 ++ dktX8_deepOf_1
theorem dksX8_deepOf_0 : cX8_deepOf.data.toList.drop 0 = dktX8_deepOf_0 := by decide +kernel
theorem dksX8_deepOf_1 : cX8_deepOf.data.toList.drop 23 = dktX8_deepOf_1 := dk_seg dksX8_deepOf_0 23 rfl rfl
theorem dX8_deepOf_0 : decode cX8_deepOf 0 = .ok (.iconst 0, 1) := dk_3 (dk_at dksX8_deepOf_0 0 rfl rfl)
theorem dX8_deepOf_1 : decode cX8_deepOf 1 = .ok (.istore_n 2, 1) := dk_61 (dk_at dksX8_deepOf_0 1 rfl rfl)
theorem dX8_deepOf_2 : decode cX8_deepOf 2 = .ok (.aload_n 0, 1) := dk_42 (dk_at dksX8_deepOf_0 2 rfl rfl)
theorem dX8_deepOf_3 : decode cX8_deepOf 3 = .ok (.iload_n 1, 1) := dk_27 (dk_at dksX8_deepOf_0 3 rfl rfl)
theorem dX8_deepOf_4 : decode cX8_deepOf 4 = .ok (.invokevirtual 109, 3) := dk_182 0 109 (dk_at dksX8_deepOf_0 4 rfl rfl)
theorem dX8_deepOf_7 : decode cX8_deepOf 7 = .ok (.istore_n 3, 1) := dk_62 (dk_at dksX8_deepOf_0 7 rfl rfl)
theorem dX8_deepOf_8 : decode cX8_deepOf 8 = .ok (.iload_n 3, 1) := dk_29 (dk_at dksX8_deepOf_0 8 rfl rfl)
theorem dX8_deepOf_9 : decode cX8_deepOf 9 = .ok (.bipush (-4), 2) := dk_16 252 (dk_at dksX8_deepOf_0 9 rfl rfl)
theorem dX8_deepOf_11 : decode cX8_deepOf 11 = .ok (.if_icmp .eq 15, 3) := dk_159 0 15 (dk_at dksX8_deepOf_0 11 rfl rfl)
theorem dX8_deepOf_14 : decode cX8_deepOf 14 = .ok (.iinc 2 1, 3) := dk_132 2 1 (dk_at dksX8_deepOf_0 14 rfl rfl)
theorem dX8_deepOf_17 : decode cX8_deepOf 17 = .ok (.aload_n 0, 1) := dk_42 (dk_at dksX8_deepOf_0 17 rfl rfl)
theorem dX8_deepOf_18 : decode cX8_deepOf 18 = .ok (.iload_n 3, 1) := dk_29 (dk_at dksX8_deepOf_0 18 rfl rfl)
theorem dX8_deepOf_19 : decode cX8_deepOf 19 = .ok (.invokevirtual 109, 3) := dk_182 0 109 (dk_at dksX8_deepOf_0 19 rfl rfl)
theorem dX8_deepOf_22 : decode cX8_deepOf 22 = .ok (.istore_n 3, 1) := dk_62 (dk_at dksX8_deepOf_0 22 rfl rfl)
theorem dX8_deepOf_23 : decode cX8_deepOf 23 = .ok (.goto (-15), 3) := dk_167 255 241 (dk_at dksX8_deepOf_1 0 rfl rfl)
theorem dX8_deepOf_26 : decode cX8_deepOf 26 = .ok (.iload_n 2, 1) := dk_28 (dk_at dksX8_deepOf_1 3 rfl rfl)
theorem dX8_deepOf_27 : decode cX8_deepOf 27 = .ok (.ireturn, 1) := dk_172 (dk_at dksX8_deepOf_1 4 rfl rfl)
abbrev cX8_leafOf : ByteArray := prog_11_method_21_code
def yX8_leafOf : MethodName := ⟨RX8, "leafOf", "(I)I"⟩
def dkwX8_leafOf_1 : List UInt8 := [46, 27, 160, 0, 7, 29, 167, 0, 4, 28, 61, 132, 3, 1, 167, 255, 223, 28, 172]
abbrev dktX8_leafOf_1 : List UInt8 := dkwX8_leafOf_1 ++ []
def dkwX8_leafOf_0 : List UInt8 := [16, 252, 61, 3, 62, 29, 16, 24, 162, 0, 33, 42, 29, 182, 0, 113, 153, 0, 17, 42, 180, 0, 32, 29]
abbrev dktX8_leafOf_0 : List UInt8 := dkwX8_leafOf_0 ++ dktX8_leafOf_1
theorem dksX8_leafOf_0 : cX8_leafOf.data.toList.drop 0 = dktX8_leafOf_0 := by decide +kernel
theorem dksX8_leafOf_1 : cX8_leafOf.data.toList.drop 24 = dktX8_leafOf_1 := dk_seg dksX8_leafOf_0 24 rfl rfl
theorem dX8_leafOf_0 : decode cX8_leafOf 0 = .ok (.bipush (-4), 2) := dk_16 252 (dk_at dksX8_leafOf_0 0 rfl rfl)
theorem dX8_leafOf_2 : decode cX8_leafOf 2 = .ok (.istore_n 2, 1) := dk_61 (dk_at dksX8_leafOf_0 2 rfl rfl)
theorem dX8_leafOf_3 : decode cX8_leafOf 3 = .ok (.iconst 0, 1) := dk_3 (dk_at dksX8_leafOf_0 3 rfl rfl)
theorem dX8_leafOf_4 : decode cX8_leafOf 4 = .ok (.istore_n 3, 1) := dk_62 (dk_at dksX8_leafOf_0 4 rfl rfl)
theorem dX8_leafOf_5 : decode cX8_leafOf 5 = .ok (.iload_n 3, 1) := dk_29 (dk_at dksX8_leafOf_0 5 rfl rfl)
theorem dX8_leafOf_6 : decode cX8_leafOf 6 = .ok (.bipush 24, 2) := dk_16 24 (dk_at dksX8_leafOf_0 6 rfl rfl)
theorem dX8_leafOf_8 : decode cX8_leafOf 8 = .ok (.if_icmp .ge 33, 3) := dk_162 0 33 (dk_at dksX8_leafOf_0 8 rfl rfl)
theorem dX8_leafOf_11 : decode cX8_leafOf 11 = .ok (.aload_n 0, 1) := dk_42 (dk_at dksX8_leafOf_0 11 rfl rfl)
theorem dX8_leafOf_12 : decode cX8_leafOf 12 = .ok (.iload_n 3, 1) := dk_29 (dk_at dksX8_leafOf_0 12 rfl rfl)
theorem dX8_leafOf_13 : decode cX8_leafOf 13 = .ok (.invokevirtual 113, 3) := dk_182 0 113 (dk_at dksX8_leafOf_0 13 rfl rfl)
theorem dX8_leafOf_16 : decode cX8_leafOf 16 = .ok (.ifCond .eq 17, 3) := dk_153 0 17 (dk_at dksX8_leafOf_0 16 rfl rfl)
theorem dX8_leafOf_19 : decode cX8_leafOf 19 = .ok (.aload_n 0, 1) := dk_42 (dk_at dksX8_leafOf_0 19 rfl rfl)
theorem dX8_leafOf_20 : decode cX8_leafOf 20 = .ok (.getfield 32, 3) := dk_180 0 32 (dk_at dksX8_leafOf_0 20 rfl rfl)
theorem dX8_leafOf_23 : decode cX8_leafOf 23 = .ok (.iload_n 3, 1) := dk_29 (dk_at dksX8_leafOf_0 23 rfl rfl)
theorem dX8_leafOf_24 : decode cX8_leafOf 24 = .ok (.iaload, 1) := dk_46 (dk_at dksX8_leafOf_1 0 rfl rfl)
theorem dX8_leafOf_25 : decode cX8_leafOf 25 = .ok (.iload_n 1, 1) := dk_27 (dk_at dksX8_leafOf_1 1 rfl rfl)
theorem dX8_leafOf_26 : decode cX8_leafOf 26 = .ok (.if_icmp .ne 7, 3) := dk_160 0 7 (dk_at dksX8_leafOf_1 2 rfl rfl)
theorem dX8_leafOf_29 : decode cX8_leafOf 29 = .ok (.iload_n 3, 1) := dk_29 (dk_at dksX8_leafOf_1 5 rfl rfl)
theorem dX8_leafOf_30 : decode cX8_leafOf 30 = .ok (.goto 4, 3) := dk_167 0 4 (dk_at dksX8_leafOf_1 6 rfl rfl)
theorem dX8_leafOf_33 : decode cX8_leafOf 33 = .ok (.iload_n 2, 1) := dk_28 (dk_at dksX8_leafOf_1 9 rfl rfl)
theorem dX8_leafOf_34 : decode cX8_leafOf 34 = .ok (.istore_n 2, 1) := dk_61 (dk_at dksX8_leafOf_1 10 rfl rfl)
theorem dX8_leafOf_35 : decode cX8_leafOf 35 = .ok (.iinc 3 1, 3) := dk_132 3 1 (dk_at dksX8_leafOf_1 11 rfl rfl)
theorem dX8_leafOf_38 : decode cX8_leafOf 38 = .ok (.goto (-33), 3) := dk_167 255 223 (dk_at dksX8_leafOf_1 14 rfl rfl)
theorem dX8_leafOf_41 : decode cX8_leafOf 41 = .ok (.iload_n 2, 1) := dk_28 (dk_at dksX8_leafOf_1 17 rfl rfl)
theorem dX8_leafOf_42 : decode cX8_leafOf 42 = .ok (.ireturn, 1) := dk_172 (dk_at dksX8_leafOf_1 18 rfl rfl)
abbrev cX8_node : ByteArray := prog_11_method_29_code
def yX8_node : MethodName := ⟨RX8, "node", "(II)I"⟩
def dkwX8_node_3 : List UInt8 := [160, 0, 12, 42, 180, 0, 38, 29, 46, 167, 0, 8, 42, 29, 182, 0, 117, 172]
abbrev dktX8_node_3 : List UInt8 := dkwX8_node_3 ++ []
def dkwX8_node_2 : List UInt8 := [180, 0, 53, 29, 46, 167, 0, 36, 28, 4, 160, 0, 12, 42, 180, 0, 35, 29, 46, 167, 0, 22, 28, 5]
abbrev dktX8_node_2 : List UInt8 := dkwX8_node_2 ++ dktX8_node_3
def dkwX8_node_1 : List UInt8 := [182, 0, 168, 62, 29, 16, 252, 160, 0, 6, 16, 252, 172, 42, 182, 0, 155, 87, 28, 154, 0, 12, 42]
abbrev dktX8_node_1 : List UInt8 := dkwX8_node_1 ++ dktX8_node_2
def dkwX8_node_0 : List UInt8 := [27, 4, 17, 15, 255, 184, 0, 93, 153, 0, 12, 28, 3, 6, 184, 0, 93, 154, 0, 5, 2, 172, 42, 27]
abbrev dktX8_node_0 : List UInt8 := dkwX8_node_0 ++ dktX8_node_1
theorem dksX8_node_0 : cX8_node.data.toList.drop 0 = dktX8_node_0 := by decide +kernel
theorem dksX8_node_1 : cX8_node.data.toList.drop 24 = dktX8_node_1 := dk_seg dksX8_node_0 24 rfl rfl
theorem dksX8_node_2 : cX8_node.data.toList.drop 47 = dktX8_node_2 := dk_seg dksX8_node_1 23 rfl rfl
theorem dksX8_node_3 : cX8_node.data.toList.drop 71 = dktX8_node_3 := dk_seg dksX8_node_2 24 rfl rfl
theorem dX8_node_0 : decode cX8_node 0 = .ok (.iload_n 1, 1) := dk_27 (dk_at dksX8_node_0 0 rfl rfl)
theorem dX8_node_1 : decode cX8_node 1 = .ok (.iconst 1, 1) := dk_4 (dk_at dksX8_node_0 1 rfl rfl)
theorem dX8_node_2 : decode cX8_node 2 = .ok (.sipush 4095, 3) := dk_17 15 255 (dk_at dksX8_node_0 2 rfl rfl)
theorem dX8_node_5 : decode cX8_node 5 = .ok (.invokestatic 93, 3) := dk_184 0 93 (dk_at dksX8_node_0 5 rfl rfl)
theorem dX8_node_8 : decode cX8_node 8 = .ok (.ifCond .eq 12, 3) := dk_153 0 12 (dk_at dksX8_node_0 8 rfl rfl)
theorem dX8_node_11 : decode cX8_node 11 = .ok (.iload_n 2, 1) := dk_28 (dk_at dksX8_node_0 11 rfl rfl)
theorem dX8_node_12 : decode cX8_node 12 = .ok (.iconst 0, 1) := dk_3 (dk_at dksX8_node_0 12 rfl rfl)
theorem dX8_node_13 : decode cX8_node 13 = .ok (.iconst 3, 1) := dk_6 (dk_at dksX8_node_0 13 rfl rfl)
theorem dX8_node_14 : decode cX8_node 14 = .ok (.invokestatic 93, 3) := dk_184 0 93 (dk_at dksX8_node_0 14 rfl rfl)
theorem dX8_node_17 : decode cX8_node 17 = .ok (.ifCond .ne 5, 3) := dk_154 0 5 (dk_at dksX8_node_0 17 rfl rfl)
theorem dX8_node_20 : decode cX8_node 20 = .ok (.iconst (-1), 1) := dk_2 (dk_at dksX8_node_0 20 rfl rfl)
theorem dX8_node_21 : decode cX8_node 21 = .ok (.ireturn, 1) := dk_172 (dk_at dksX8_node_0 21 rfl rfl)
theorem dX8_node_22 : decode cX8_node 22 = .ok (.aload_n 0, 1) := dk_42 (dk_at dksX8_node_0 22 rfl rfl)
theorem dX8_node_23 : decode cX8_node 23 = .ok (.iload_n 1, 1) := dk_27 (dk_at dksX8_node_0 23 rfl rfl)
theorem dX8_node_24 : decode cX8_node 24 = .ok (.invokevirtual 168, 3) := dk_182 0 168 (dk_at dksX8_node_1 0 rfl rfl)
theorem dX8_node_27 : decode cX8_node 27 = .ok (.istore_n 3, 1) := dk_62 (dk_at dksX8_node_1 3 rfl rfl)
theorem dX8_node_28 : decode cX8_node 28 = .ok (.iload_n 3, 1) := dk_29 (dk_at dksX8_node_1 4 rfl rfl)
theorem dX8_node_29 : decode cX8_node 29 = .ok (.bipush (-4), 2) := dk_16 252 (dk_at dksX8_node_1 5 rfl rfl)
theorem dX8_node_31 : decode cX8_node 31 = .ok (.if_icmp .ne 6, 3) := dk_160 0 6 (dk_at dksX8_node_1 7 rfl rfl)
theorem dX8_node_34 : decode cX8_node 34 = .ok (.bipush (-4), 2) := dk_16 252 (dk_at dksX8_node_1 10 rfl rfl)
theorem dX8_node_36 : decode cX8_node 36 = .ok (.ireturn, 1) := dk_172 (dk_at dksX8_node_1 12 rfl rfl)
theorem dX8_node_37 : decode cX8_node 37 = .ok (.aload_n 0, 1) := dk_42 (dk_at dksX8_node_1 13 rfl rfl)
theorem dX8_node_38 : decode cX8_node 38 = .ok (.invokevirtual 155, 3) := dk_182 0 155 (dk_at dksX8_node_1 14 rfl rfl)
theorem dX8_node_41 : decode cX8_node 41 = .ok (.pop, 1) := dk_87 (dk_at dksX8_node_1 17 rfl rfl)
theorem dX8_node_42 : decode cX8_node 42 = .ok (.iload_n 2, 1) := dk_28 (dk_at dksX8_node_1 18 rfl rfl)
theorem dX8_node_43 : decode cX8_node 43 = .ok (.ifCond .ne 12, 3) := dk_154 0 12 (dk_at dksX8_node_1 19 rfl rfl)
theorem dX8_node_46 : decode cX8_node 46 = .ok (.aload_n 0, 1) := dk_42 (dk_at dksX8_node_1 22 rfl rfl)
theorem dX8_node_47 : decode cX8_node 47 = .ok (.getfield 53, 3) := dk_180 0 53 (dk_at dksX8_node_2 0 rfl rfl)
theorem dX8_node_50 : decode cX8_node 50 = .ok (.iload_n 3, 1) := dk_29 (dk_at dksX8_node_2 3 rfl rfl)
theorem dX8_node_51 : decode cX8_node 51 = .ok (.iaload, 1) := dk_46 (dk_at dksX8_node_2 4 rfl rfl)
theorem dX8_node_52 : decode cX8_node 52 = .ok (.goto 36, 3) := dk_167 0 36 (dk_at dksX8_node_2 5 rfl rfl)
theorem dX8_node_55 : decode cX8_node 55 = .ok (.iload_n 2, 1) := dk_28 (dk_at dksX8_node_2 8 rfl rfl)
theorem dX8_node_56 : decode cX8_node 56 = .ok (.iconst 1, 1) := dk_4 (dk_at dksX8_node_2 9 rfl rfl)
theorem dX8_node_57 : decode cX8_node 57 = .ok (.if_icmp .ne 12, 3) := dk_160 0 12 (dk_at dksX8_node_2 10 rfl rfl)
theorem dX8_node_60 : decode cX8_node 60 = .ok (.aload_n 0, 1) := dk_42 (dk_at dksX8_node_2 13 rfl rfl)
theorem dX8_node_61 : decode cX8_node 61 = .ok (.getfield 35, 3) := dk_180 0 35 (dk_at dksX8_node_2 14 rfl rfl)
theorem dX8_node_64 : decode cX8_node 64 = .ok (.iload_n 3, 1) := dk_29 (dk_at dksX8_node_2 17 rfl rfl)
theorem dX8_node_65 : decode cX8_node 65 = .ok (.iaload, 1) := dk_46 (dk_at dksX8_node_2 18 rfl rfl)
theorem dX8_node_66 : decode cX8_node 66 = .ok (.goto 22, 3) := dk_167 0 22 (dk_at dksX8_node_2 19 rfl rfl)
theorem dX8_node_69 : decode cX8_node 69 = .ok (.iload_n 2, 1) := dk_28 (dk_at dksX8_node_2 22 rfl rfl)
theorem dX8_node_70 : decode cX8_node 70 = .ok (.iconst 2, 1) := dk_5 (dk_at dksX8_node_2 23 rfl rfl)
theorem dX8_node_71 : decode cX8_node 71 = .ok (.if_icmp .ne 12, 3) := dk_160 0 12 (dk_at dksX8_node_3 0 rfl rfl)
theorem dX8_node_74 : decode cX8_node 74 = .ok (.aload_n 0, 1) := dk_42 (dk_at dksX8_node_3 3 rfl rfl)
theorem dX8_node_75 : decode cX8_node 75 = .ok (.getfield 38, 3) := dk_180 0 38 (dk_at dksX8_node_3 4 rfl rfl)
theorem dX8_node_78 : decode cX8_node 78 = .ok (.iload_n 3, 1) := dk_29 (dk_at dksX8_node_3 7 rfl rfl)
theorem dX8_node_79 : decode cX8_node 79 = .ok (.iaload, 1) := dk_46 (dk_at dksX8_node_3 8 rfl rfl)
theorem dX8_node_80 : decode cX8_node 80 = .ok (.goto 8, 3) := dk_167 0 8 (dk_at dksX8_node_3 9 rfl rfl)
theorem dX8_node_83 : decode cX8_node 83 = .ok (.aload_n 0, 1) := dk_42 (dk_at dksX8_node_3 12 rfl rfl)
theorem dX8_node_84 : decode cX8_node 84 = .ok (.iload_n 3, 1) := dk_29 (dk_at dksX8_node_3 13 rfl rfl)
theorem dX8_node_85 : decode cX8_node 85 = .ok (.invokevirtual 117, 3) := dk_182 0 117 (dk_at dksX8_node_3 14 rfl rfl)
theorem dX8_node_88 : decode cX8_node 88 = .ok (.ireturn, 1) := dk_172 (dk_at dksX8_node_3 17 rfl rfl)
abbrev cX8_nodeBy : ByteArray := prog_11_method_28_code
def yX8_nodeBy : MethodName := ⟨RX8, "nodeBy", "(I)I"⟩
def dkwX8_nodeBy_3 : List UInt8 := [46, 62, 21, 4, 5, 108, 54, 4, 167, 255, 203, 29, 172]
abbrev dktX8_nodeBy_3 : List UInt8 := dkwX8_nodeBy_3 ++ []
def dkwX8_nodeBy_2 : List UInt8 := [167, 0, 25, 27, 21, 4, 126, 154, 0, 12, 42, 180, 0, 26, 29, 46, 167, 0, 9, 42, 180, 0, 29, 29]
abbrev dktX8_nodeBy_2 : List UInt8 := dkwX8_nodeBy_2 ++ dktX8_nodeBy_3
def dkwX8_nodeBy_1 : List UInt8 := [54, 4, 21, 4, 158, 0, 54, 29, 16, 252, 159, 0, 48, 42, 29, 182, 0, 113, 153, 0, 8, 16, 252]
abbrev dktX8_nodeBy_1 : List UInt8 := dkwX8_nodeBy_1 ++ dktX8_nodeBy_2
def dkwX8_nodeBy_0 : List UInt8 := [4, 61, 5, 28, 104, 27, 163, 0, 10, 28, 5, 104, 61, 167, 255, 245, 42, 180, 0, 22, 62, 28, 5, 108]
abbrev dktX8_nodeBy_0 : List UInt8 := dkwX8_nodeBy_0 ++ dktX8_nodeBy_1
theorem dksX8_nodeBy_0 : cX8_nodeBy.data.toList.drop 0 = dktX8_nodeBy_0 := by decide +kernel
theorem dksX8_nodeBy_1 : cX8_nodeBy.data.toList.drop 24 = dktX8_nodeBy_1 := dk_seg dksX8_nodeBy_0 24 rfl rfl
theorem dksX8_nodeBy_2 : cX8_nodeBy.data.toList.drop 47 = dktX8_nodeBy_2 := dk_seg dksX8_nodeBy_1 23 rfl rfl
theorem dksX8_nodeBy_3 : cX8_nodeBy.data.toList.drop 71 = dktX8_nodeBy_3 := dk_seg dksX8_nodeBy_2 24 rfl rfl
theorem dX8_nodeBy_0 : decode cX8_nodeBy 0 = .ok (.iconst 1, 1) := dk_4 (dk_at dksX8_nodeBy_0 0 rfl rfl)
theorem dX8_nodeBy_1 : decode cX8_nodeBy 1 = .ok (.istore_n 2, 1) := dk_61 (dk_at dksX8_nodeBy_0 1 rfl rfl)
theorem dX8_nodeBy_2 : decode cX8_nodeBy 2 = .ok (.iconst 2, 1) := dk_5 (dk_at dksX8_nodeBy_0 2 rfl rfl)
theorem dX8_nodeBy_3 : decode cX8_nodeBy 3 = .ok (.iload_n 2, 1) := dk_28 (dk_at dksX8_nodeBy_0 3 rfl rfl)
theorem dX8_nodeBy_4 : decode cX8_nodeBy 4 = .ok (.imul, 1) := dk_104 (dk_at dksX8_nodeBy_0 4 rfl rfl)
theorem dX8_nodeBy_5 : decode cX8_nodeBy 5 = .ok (.iload_n 1, 1) := dk_27 (dk_at dksX8_nodeBy_0 5 rfl rfl)
theorem dX8_nodeBy_6 : decode cX8_nodeBy 6 = .ok (.if_icmp .gt 10, 3) := dk_163 0 10 (dk_at dksX8_nodeBy_0 6 rfl rfl)
theorem dX8_nodeBy_9 : decode cX8_nodeBy 9 = .ok (.iload_n 2, 1) := dk_28 (dk_at dksX8_nodeBy_0 9 rfl rfl)
theorem dX8_nodeBy_10 : decode cX8_nodeBy 10 = .ok (.iconst 2, 1) := dk_5 (dk_at dksX8_nodeBy_0 10 rfl rfl)
theorem dX8_nodeBy_11 : decode cX8_nodeBy 11 = .ok (.imul, 1) := dk_104 (dk_at dksX8_nodeBy_0 11 rfl rfl)
theorem dX8_nodeBy_12 : decode cX8_nodeBy 12 = .ok (.istore_n 2, 1) := dk_61 (dk_at dksX8_nodeBy_0 12 rfl rfl)
theorem dX8_nodeBy_13 : decode cX8_nodeBy 13 = .ok (.goto (-11), 3) := dk_167 255 245 (dk_at dksX8_nodeBy_0 13 rfl rfl)
theorem dX8_nodeBy_16 : decode cX8_nodeBy 16 = .ok (.aload_n 0, 1) := dk_42 (dk_at dksX8_nodeBy_0 16 rfl rfl)
theorem dX8_nodeBy_17 : decode cX8_nodeBy 17 = .ok (.getfield 22, 3) := dk_180 0 22 (dk_at dksX8_nodeBy_0 17 rfl rfl)
theorem dX8_nodeBy_20 : decode cX8_nodeBy 20 = .ok (.istore_n 3, 1) := dk_62 (dk_at dksX8_nodeBy_0 20 rfl rfl)
theorem dX8_nodeBy_21 : decode cX8_nodeBy 21 = .ok (.iload_n 2, 1) := dk_28 (dk_at dksX8_nodeBy_0 21 rfl rfl)
theorem dX8_nodeBy_22 : decode cX8_nodeBy 22 = .ok (.iconst 2, 1) := dk_5 (dk_at dksX8_nodeBy_0 22 rfl rfl)
theorem dX8_nodeBy_23 : decode cX8_nodeBy 23 = .ok (.idiv, 1) := dk_108 (dk_at dksX8_nodeBy_0 23 rfl rfl)
theorem dX8_nodeBy_24 : decode cX8_nodeBy 24 = .ok (.istore 4, 2) := dk_54 4 (dk_at dksX8_nodeBy_1 0 rfl rfl)
theorem dX8_nodeBy_26 : decode cX8_nodeBy 26 = .ok (.iload 4, 2) := dk_21 4 (dk_at dksX8_nodeBy_1 2 rfl rfl)
theorem dX8_nodeBy_28 : decode cX8_nodeBy 28 = .ok (.ifCond .le 54, 3) := dk_158 0 54 (dk_at dksX8_nodeBy_1 4 rfl rfl)
theorem dX8_nodeBy_31 : decode cX8_nodeBy 31 = .ok (.iload_n 3, 1) := dk_29 (dk_at dksX8_nodeBy_1 7 rfl rfl)
theorem dX8_nodeBy_32 : decode cX8_nodeBy 32 = .ok (.bipush (-4), 2) := dk_16 252 (dk_at dksX8_nodeBy_1 8 rfl rfl)
theorem dX8_nodeBy_34 : decode cX8_nodeBy 34 = .ok (.if_icmp .eq 48, 3) := dk_159 0 48 (dk_at dksX8_nodeBy_1 10 rfl rfl)
theorem dX8_nodeBy_37 : decode cX8_nodeBy 37 = .ok (.aload_n 0, 1) := dk_42 (dk_at dksX8_nodeBy_1 13 rfl rfl)
theorem dX8_nodeBy_38 : decode cX8_nodeBy 38 = .ok (.iload_n 3, 1) := dk_29 (dk_at dksX8_nodeBy_1 14 rfl rfl)
theorem dX8_nodeBy_39 : decode cX8_nodeBy 39 = .ok (.invokevirtual 113, 3) := dk_182 0 113 (dk_at dksX8_nodeBy_1 15 rfl rfl)
theorem dX8_nodeBy_42 : decode cX8_nodeBy 42 = .ok (.ifCond .eq 8, 3) := dk_153 0 8 (dk_at dksX8_nodeBy_1 18 rfl rfl)
theorem dX8_nodeBy_45 : decode cX8_nodeBy 45 = .ok (.bipush (-4), 2) := dk_16 252 (dk_at dksX8_nodeBy_1 21 rfl rfl)
theorem dX8_nodeBy_47 : decode cX8_nodeBy 47 = .ok (.goto 25, 3) := dk_167 0 25 (dk_at dksX8_nodeBy_2 0 rfl rfl)
theorem dX8_nodeBy_50 : decode cX8_nodeBy 50 = .ok (.iload_n 1, 1) := dk_27 (dk_at dksX8_nodeBy_2 3 rfl rfl)
theorem dX8_nodeBy_51 : decode cX8_nodeBy 51 = .ok (.iload 4, 2) := dk_21 4 (dk_at dksX8_nodeBy_2 4 rfl rfl)
theorem dX8_nodeBy_53 : decode cX8_nodeBy 53 = .ok (.iand, 1) := dk_126 (dk_at dksX8_nodeBy_2 6 rfl rfl)
theorem dX8_nodeBy_54 : decode cX8_nodeBy 54 = .ok (.ifCond .ne 12, 3) := dk_154 0 12 (dk_at dksX8_nodeBy_2 7 rfl rfl)
theorem dX8_nodeBy_57 : decode cX8_nodeBy 57 = .ok (.aload_n 0, 1) := dk_42 (dk_at dksX8_nodeBy_2 10 rfl rfl)
theorem dX8_nodeBy_58 : decode cX8_nodeBy 58 = .ok (.getfield 26, 3) := dk_180 0 26 (dk_at dksX8_nodeBy_2 11 rfl rfl)
theorem dX8_nodeBy_61 : decode cX8_nodeBy 61 = .ok (.iload_n 3, 1) := dk_29 (dk_at dksX8_nodeBy_2 14 rfl rfl)
theorem dX8_nodeBy_62 : decode cX8_nodeBy 62 = .ok (.iaload, 1) := dk_46 (dk_at dksX8_nodeBy_2 15 rfl rfl)
theorem dX8_nodeBy_63 : decode cX8_nodeBy 63 = .ok (.goto 9, 3) := dk_167 0 9 (dk_at dksX8_nodeBy_2 16 rfl rfl)
theorem dX8_nodeBy_66 : decode cX8_nodeBy 66 = .ok (.aload_n 0, 1) := dk_42 (dk_at dksX8_nodeBy_2 19 rfl rfl)
theorem dX8_nodeBy_67 : decode cX8_nodeBy 67 = .ok (.getfield 29, 3) := dk_180 0 29 (dk_at dksX8_nodeBy_2 20 rfl rfl)
theorem dX8_nodeBy_70 : decode cX8_nodeBy 70 = .ok (.iload_n 3, 1) := dk_29 (dk_at dksX8_nodeBy_2 23 rfl rfl)
theorem dX8_nodeBy_71 : decode cX8_nodeBy 71 = .ok (.iaload, 1) := dk_46 (dk_at dksX8_nodeBy_3 0 rfl rfl)
theorem dX8_nodeBy_72 : decode cX8_nodeBy 72 = .ok (.istore_n 3, 1) := dk_62 (dk_at dksX8_nodeBy_3 1 rfl rfl)
theorem dX8_nodeBy_73 : decode cX8_nodeBy 73 = .ok (.iload 4, 2) := dk_21 4 (dk_at dksX8_nodeBy_3 2 rfl rfl)
theorem dX8_nodeBy_75 : decode cX8_nodeBy 75 = .ok (.iconst 2, 1) := dk_5 (dk_at dksX8_nodeBy_3 4 rfl rfl)
theorem dX8_nodeBy_76 : decode cX8_nodeBy 76 = .ok (.idiv, 1) := dk_108 (dk_at dksX8_nodeBy_3 5 rfl rfl)
theorem dX8_nodeBy_77 : decode cX8_nodeBy 77 = .ok (.istore 4, 2) := dk_54 4 (dk_at dksX8_nodeBy_3 6 rfl rfl)
theorem dX8_nodeBy_79 : decode cX8_nodeBy 79 = .ok (.goto (-53), 3) := dk_167 255 203 (dk_at dksX8_nodeBy_3 8 rfl rfl)
theorem dX8_nodeBy_82 : decode cX8_nodeBy 82 = .ok (.iload_n 3, 1) := dk_29 (dk_at dksX8_nodeBy_3 11 rfl rfl)
theorem dX8_nodeBy_83 : decode cX8_nodeBy 83 = .ok (.ireturn, 1) := dk_172 (dk_at dksX8_nodeBy_3 12 rfl rfl)
abbrev cX8_add : ByteArray := prog_11_method_34_code
def yX8_add : MethodName := ⟨RX8, "add", "(IIII)I"⟩
def dkwX8_add_1 : List UInt8 := [172, 42, 182, 0, 184, 42, 27, 28, 29, 21, 4, 182, 0, 86, 172]
abbrev dktX8_add_1 : List UInt8 := dkwX8_add_1 ++ []
def dkwX8_add_0 : List UInt8 := [27, 28, 29, 21, 4, 184, 0, 178, 154, 0, 5, 2, 172, 42, 182, 0, 181, 16, 12, 160, 0, 6, 16, 253]
abbrev dktX8_add_0 : List UInt8 := dkwX8_add_0 ++ dktX8_add_1
theorem dksX8_add_0 : cX8_add.data.toList.drop 0 = dktX8_add_0 := by decide +kernel
theorem dksX8_add_1 : cX8_add.data.toList.drop 24 = dktX8_add_1 := dk_seg dksX8_add_0 24 rfl rfl
theorem dX8_add_0 : decode cX8_add 0 = .ok (.iload_n 1, 1) := dk_27 (dk_at dksX8_add_0 0 rfl rfl)
theorem dX8_add_1 : decode cX8_add 1 = .ok (.iload_n 2, 1) := dk_28 (dk_at dksX8_add_0 1 rfl rfl)
theorem dX8_add_2 : decode cX8_add 2 = .ok (.iload_n 3, 1) := dk_29 (dk_at dksX8_add_0 2 rfl rfl)
theorem dX8_add_3 : decode cX8_add 3 = .ok (.iload 4, 2) := dk_21 4 (dk_at dksX8_add_0 3 rfl rfl)
theorem dX8_add_5 : decode cX8_add 5 = .ok (.invokestatic 178, 3) := dk_184 0 178 (dk_at dksX8_add_0 5 rfl rfl)
theorem dX8_add_8 : decode cX8_add 8 = .ok (.ifCond .ne 5, 3) := dk_154 0 5 (dk_at dksX8_add_0 8 rfl rfl)
theorem dX8_add_11 : decode cX8_add 11 = .ok (.iconst (-1), 1) := dk_2 (dk_at dksX8_add_0 11 rfl rfl)
theorem dX8_add_12 : decode cX8_add 12 = .ok (.ireturn, 1) := dk_172 (dk_at dksX8_add_0 12 rfl rfl)
theorem dX8_add_13 : decode cX8_add 13 = .ok (.aload_n 0, 1) := dk_42 (dk_at dksX8_add_0 13 rfl rfl)
theorem dX8_add_14 : decode cX8_add 14 = .ok (.invokevirtual 181, 3) := dk_182 0 181 (dk_at dksX8_add_0 14 rfl rfl)
theorem dX8_add_17 : decode cX8_add 17 = .ok (.bipush 12, 2) := dk_16 12 (dk_at dksX8_add_0 17 rfl rfl)
theorem dX8_add_19 : decode cX8_add 19 = .ok (.if_icmp .ne 6, 3) := dk_160 0 6 (dk_at dksX8_add_0 19 rfl rfl)
theorem dX8_add_22 : decode cX8_add 22 = .ok (.bipush (-3), 2) := dk_16 253 (dk_at dksX8_add_0 22 rfl rfl)
theorem dX8_add_24 : decode cX8_add 24 = .ok (.ireturn, 1) := dk_172 (dk_at dksX8_add_1 0 rfl rfl)
theorem dX8_add_25 : decode cX8_add 25 = .ok (.aload_n 0, 1) := dk_42 (dk_at dksX8_add_1 1 rfl rfl)
theorem dX8_add_26 : decode cX8_add 26 = .ok (.invokevirtual 184, 3) := dk_182 0 184 (dk_at dksX8_add_1 2 rfl rfl)
theorem dX8_add_29 : decode cX8_add 29 = .ok (.aload_n 0, 1) := dk_42 (dk_at dksX8_add_1 5 rfl rfl)
theorem dX8_add_30 : decode cX8_add 30 = .ok (.iload_n 1, 1) := dk_27 (dk_at dksX8_add_1 6 rfl rfl)
theorem dX8_add_31 : decode cX8_add 31 = .ok (.iload_n 2, 1) := dk_28 (dk_at dksX8_add_1 7 rfl rfl)
theorem dX8_add_32 : decode cX8_add 32 = .ok (.iload_n 3, 1) := dk_29 (dk_at dksX8_add_1 8 rfl rfl)
theorem dX8_add_33 : decode cX8_add 33 = .ok (.iload 4, 2) := dk_21 4 (dk_at dksX8_add_1 9 rfl rfl)
theorem dX8_add_35 : decode cX8_add 35 = .ok (.invokevirtual 86, 3) := dk_182 0 86 (dk_at dksX8_add_1 11 rfl rfl)
theorem dX8_add_38 : decode cX8_add 38 = .ok (.ireturn, 1) := dk_172 (dk_at dksX8_add_1 14 rfl rfl)
abbrev cX8_isTold : ByteArray := prog_11_method_33_code
def yX8_isTold : MethodName := ⟨RX8, "isTold", "(IIII)Z"⟩
def dkwX8_isTold_1 : List UInt8 := [184, 0, 93, 153, 0, 17, 29, 4, 16, 9, 184, 0, 93, 153, 0, 7, 4, 167, 0, 4, 3, 172]
abbrev dktX8_isTold_1 : List UInt8 := dkwX8_isTold_1 ++ []
def dkwX8_isTold_0 : List UInt8 := [26, 3, 6, 184, 0, 93, 153, 0, 37, 27, 3, 16, 99, 184, 0, 93, 153, 0, 27, 28, 3, 16, 99]
abbrev dktX8_isTold_0 : List UInt8 := dkwX8_isTold_0 ++ dktX8_isTold_1
theorem dksX8_isTold_0 : cX8_isTold.data.toList.drop 0 = dktX8_isTold_0 := by decide +kernel
theorem dksX8_isTold_1 : cX8_isTold.data.toList.drop 23 = dktX8_isTold_1 := dk_seg dksX8_isTold_0 23 rfl rfl
theorem dX8_isTold_0 : decode cX8_isTold 0 = .ok (.iload_n 0, 1) := dk_26 (dk_at dksX8_isTold_0 0 rfl rfl)
theorem dX8_isTold_1 : decode cX8_isTold 1 = .ok (.iconst 0, 1) := dk_3 (dk_at dksX8_isTold_0 1 rfl rfl)
theorem dX8_isTold_2 : decode cX8_isTold 2 = .ok (.iconst 3, 1) := dk_6 (dk_at dksX8_isTold_0 2 rfl rfl)
theorem dX8_isTold_3 : decode cX8_isTold 3 = .ok (.invokestatic 93, 3) := dk_184 0 93 (dk_at dksX8_isTold_0 3 rfl rfl)
theorem dX8_isTold_6 : decode cX8_isTold 6 = .ok (.ifCond .eq 37, 3) := dk_153 0 37 (dk_at dksX8_isTold_0 6 rfl rfl)
theorem dX8_isTold_9 : decode cX8_isTold 9 = .ok (.iload_n 1, 1) := dk_27 (dk_at dksX8_isTold_0 9 rfl rfl)
theorem dX8_isTold_10 : decode cX8_isTold 10 = .ok (.iconst 0, 1) := dk_3 (dk_at dksX8_isTold_0 10 rfl rfl)
theorem dX8_isTold_11 : decode cX8_isTold 11 = .ok (.bipush 99, 2) := dk_16 99 (dk_at dksX8_isTold_0 11 rfl rfl)
theorem dX8_isTold_13 : decode cX8_isTold 13 = .ok (.invokestatic 93, 3) := dk_184 0 93 (dk_at dksX8_isTold_0 13 rfl rfl)
theorem dX8_isTold_16 : decode cX8_isTold 16 = .ok (.ifCond .eq 27, 3) := dk_153 0 27 (dk_at dksX8_isTold_0 16 rfl rfl)
theorem dX8_isTold_19 : decode cX8_isTold 19 = .ok (.iload_n 2, 1) := dk_28 (dk_at dksX8_isTold_0 19 rfl rfl)
theorem dX8_isTold_20 : decode cX8_isTold 20 = .ok (.iconst 0, 1) := dk_3 (dk_at dksX8_isTold_0 20 rfl rfl)
theorem dX8_isTold_21 : decode cX8_isTold 21 = .ok (.bipush 99, 2) := dk_16 99 (dk_at dksX8_isTold_0 21 rfl rfl)
theorem dX8_isTold_23 : decode cX8_isTold 23 = .ok (.invokestatic 93, 3) := dk_184 0 93 (dk_at dksX8_isTold_1 0 rfl rfl)
theorem dX8_isTold_26 : decode cX8_isTold 26 = .ok (.ifCond .eq 17, 3) := dk_153 0 17 (dk_at dksX8_isTold_1 3 rfl rfl)
theorem dX8_isTold_29 : decode cX8_isTold 29 = .ok (.iload_n 3, 1) := dk_29 (dk_at dksX8_isTold_1 6 rfl rfl)
theorem dX8_isTold_30 : decode cX8_isTold 30 = .ok (.iconst 1, 1) := dk_4 (dk_at dksX8_isTold_1 7 rfl rfl)
theorem dX8_isTold_31 : decode cX8_isTold 31 = .ok (.bipush 9, 2) := dk_16 9 (dk_at dksX8_isTold_1 8 rfl rfl)
theorem dX8_isTold_33 : decode cX8_isTold 33 = .ok (.invokestatic 93, 3) := dk_184 0 93 (dk_at dksX8_isTold_1 10 rfl rfl)
theorem dX8_isTold_36 : decode cX8_isTold 36 = .ok (.ifCond .eq 7, 3) := dk_153 0 7 (dk_at dksX8_isTold_1 13 rfl rfl)
theorem dX8_isTold_39 : decode cX8_isTold 39 = .ok (.iconst 1, 1) := dk_4 (dk_at dksX8_isTold_1 16 rfl rfl)
theorem dX8_isTold_40 : decode cX8_isTold 40 = .ok (.goto 4, 3) := dk_167 0 4 (dk_at dksX8_isTold_1 17 rfl rfl)
theorem dX8_isTold_43 : decode cX8_isTold 43 = .ok (.iconst 0, 1) := dk_3 (dk_at dksX8_isTold_1 20 rfl rfl)
theorem dX8_isTold_44 : decode cX8_isTold 44 = .ok (.ireturn, 1) := dk_172 (dk_at dksX8_isTold_1 21 rfl rfl)
abbrev cX8_many : ByteArray := prog_11_method_5_code
def yX8_many : MethodName := ⟨RX8, "many", "()I"⟩
def dkwX8_many_1 : List UInt8 := [167, 255, 236, 27, 172]
abbrev dktX8_many_1 : List UInt8 := dkwX8_many_1 ++ []
def dkwX8_many_0 : List UInt8 := [3, 60, 3, 61, 28, 16, 12, 162, 0, 20, 27, 42, 180, 0, 90, 28, 122, 4, 126, 96, 60, 132, 2, 1]
abbrev dktX8_many_0 : List UInt8 := dkwX8_many_0 ++ dktX8_many_1
theorem dksX8_many_0 : cX8_many.data.toList.drop 0 = dktX8_many_0 := by decide +kernel
theorem dksX8_many_1 : cX8_many.data.toList.drop 24 = dktX8_many_1 := dk_seg dksX8_many_0 24 rfl rfl
theorem dX8_many_0 : decode cX8_many 0 = .ok (.iconst 0, 1) := dk_3 (dk_at dksX8_many_0 0 rfl rfl)
theorem dX8_many_1 : decode cX8_many 1 = .ok (.istore_n 1, 1) := dk_60 (dk_at dksX8_many_0 1 rfl rfl)
theorem dX8_many_2 : decode cX8_many 2 = .ok (.iconst 0, 1) := dk_3 (dk_at dksX8_many_0 2 rfl rfl)
theorem dX8_many_3 : decode cX8_many 3 = .ok (.istore_n 2, 1) := dk_61 (dk_at dksX8_many_0 3 rfl rfl)
theorem dX8_many_4 : decode cX8_many 4 = .ok (.iload_n 2, 1) := dk_28 (dk_at dksX8_many_0 4 rfl rfl)
theorem dX8_many_5 : decode cX8_many 5 = .ok (.bipush 12, 2) := dk_16 12 (dk_at dksX8_many_0 5 rfl rfl)
theorem dX8_many_7 : decode cX8_many 7 = .ok (.if_icmp .ge 20, 3) := dk_162 0 20 (dk_at dksX8_many_0 7 rfl rfl)
theorem dX8_many_10 : decode cX8_many 10 = .ok (.iload_n 1, 1) := dk_27 (dk_at dksX8_many_0 10 rfl rfl)
theorem dX8_many_11 : decode cX8_many 11 = .ok (.aload_n 0, 1) := dk_42 (dk_at dksX8_many_0 11 rfl rfl)
theorem dX8_many_12 : decode cX8_many 12 = .ok (.getfield 90, 3) := dk_180 0 90 (dk_at dksX8_many_0 12 rfl rfl)
theorem dX8_many_15 : decode cX8_many 15 = .ok (.iload_n 2, 1) := dk_28 (dk_at dksX8_many_0 15 rfl rfl)
theorem dX8_many_16 : decode cX8_many 16 = .ok (.ishr, 1) := dk_122 (dk_at dksX8_many_0 16 rfl rfl)
theorem dX8_many_17 : decode cX8_many 17 = .ok (.iconst 1, 1) := dk_4 (dk_at dksX8_many_0 17 rfl rfl)
theorem dX8_many_18 : decode cX8_many 18 = .ok (.iand, 1) := dk_126 (dk_at dksX8_many_0 18 rfl rfl)
theorem dX8_many_19 : decode cX8_many 19 = .ok (.iadd, 1) := dk_96 (dk_at dksX8_many_0 19 rfl rfl)
theorem dX8_many_20 : decode cX8_many 20 = .ok (.istore_n 1, 1) := dk_60 (dk_at dksX8_many_0 20 rfl rfl)
theorem dX8_many_21 : decode cX8_many 21 = .ok (.iinc 2 1, 3) := dk_132 2 1 (dk_at dksX8_many_0 21 rfl rfl)
theorem dX8_many_24 : decode cX8_many 24 = .ok (.goto (-20), 3) := dk_167 255 236 (dk_at dksX8_many_1 0 rfl rfl)
theorem dX8_many_27 : decode cX8_many 27 = .ok (.iload_n 1, 1) := dk_27 (dk_at dksX8_many_1 3 rfl rfl)
theorem dX8_many_28 : decode cX8_many 28 = .ok (.ireturn, 1) := dk_172 (dk_at dksX8_many_1 4 rfl rfl)
abbrev cX8_notes : ByteArray := prog_11_method_32_code
def yX8_notes : MethodName := ⟨RX8, "notes", "()V"⟩
def dkwX8_notes_3 : List UInt8 := [4, 96, 181, 0, 171, 177]
abbrev dktX8_notes_3 : List UInt8 := dkwX8_notes_3 ++ []
def dkwX8_notes_2 : List UInt8 := [181, 0, 171, 42, 42, 180, 0, 62, 17, 0, 171, 42, 180, 0, 171, 104, 182, 0, 174, 42, 89, 180, 0, 171]
abbrev dktX8_notes_2 : List UInt8 := dkwX8_notes_2 ++ dktX8_notes_3
def dkwX8_notes_1 : List UInt8 := [180, 0, 62, 27, 17, 0, 171, 96, 46, 79, 132, 1, 1, 167, 255, 230, 42, 89, 180, 0, 171, 4, 100]
abbrev dktX8_notes_1 : List UInt8 := dkwX8_notes_1 ++ dktX8_notes_2
def dkwX8_notes_0 : List UInt8 := [42, 180, 0, 171, 16, 8, 160, 0, 44, 3, 60, 27, 17, 4, 173, 162, 0, 25, 42, 180, 0, 62, 27, 42]
abbrev dktX8_notes_0 : List UInt8 := dkwX8_notes_0 ++ dktX8_notes_1
theorem dksX8_notes_0 : cX8_notes.data.toList.drop 0 = dktX8_notes_0 := by decide +kernel
theorem dksX8_notes_1 : cX8_notes.data.toList.drop 24 = dktX8_notes_1 := dk_seg dksX8_notes_0 24 rfl rfl
theorem dksX8_notes_2 : cX8_notes.data.toList.drop 47 = dktX8_notes_2 := dk_seg dksX8_notes_1 23 rfl rfl
theorem dksX8_notes_3 : cX8_notes.data.toList.drop 71 = dktX8_notes_3 := dk_seg dksX8_notes_2 24 rfl rfl
theorem dX8_notes_0 : decode cX8_notes 0 = .ok (.aload_n 0, 1) := dk_42 (dk_at dksX8_notes_0 0 rfl rfl)
theorem dX8_notes_1 : decode cX8_notes 1 = .ok (.getfield 171, 3) := dk_180 0 171 (dk_at dksX8_notes_0 1 rfl rfl)
theorem dX8_notes_4 : decode cX8_notes 4 = .ok (.bipush 8, 2) := dk_16 8 (dk_at dksX8_notes_0 4 rfl rfl)
theorem dX8_notes_6 : decode cX8_notes 6 = .ok (.if_icmp .ne 44, 3) := dk_160 0 44 (dk_at dksX8_notes_0 6 rfl rfl)
theorem dX8_notes_9 : decode cX8_notes 9 = .ok (.iconst 0, 1) := dk_3 (dk_at dksX8_notes_0 9 rfl rfl)
theorem dX8_notes_10 : decode cX8_notes 10 = .ok (.istore_n 1, 1) := dk_60 (dk_at dksX8_notes_0 10 rfl rfl)
theorem dX8_notes_11 : decode cX8_notes 11 = .ok (.iload_n 1, 1) := dk_27 (dk_at dksX8_notes_0 11 rfl rfl)
theorem dX8_notes_12 : decode cX8_notes 12 = .ok (.sipush 1197, 3) := dk_17 4 173 (dk_at dksX8_notes_0 12 rfl rfl)
theorem dX8_notes_15 : decode cX8_notes 15 = .ok (.if_icmp .ge 25, 3) := dk_162 0 25 (dk_at dksX8_notes_0 15 rfl rfl)
theorem dX8_notes_18 : decode cX8_notes 18 = .ok (.aload_n 0, 1) := dk_42 (dk_at dksX8_notes_0 18 rfl rfl)
theorem dX8_notes_19 : decode cX8_notes 19 = .ok (.getfield 62, 3) := dk_180 0 62 (dk_at dksX8_notes_0 19 rfl rfl)
theorem dX8_notes_22 : decode cX8_notes 22 = .ok (.iload_n 1, 1) := dk_27 (dk_at dksX8_notes_0 22 rfl rfl)
theorem dX8_notes_23 : decode cX8_notes 23 = .ok (.aload_n 0, 1) := dk_42 (dk_at dksX8_notes_0 23 rfl rfl)
theorem dX8_notes_24 : decode cX8_notes 24 = .ok (.getfield 62, 3) := dk_180 0 62 (dk_at dksX8_notes_1 0 rfl rfl)
theorem dX8_notes_27 : decode cX8_notes 27 = .ok (.iload_n 1, 1) := dk_27 (dk_at dksX8_notes_1 3 rfl rfl)
theorem dX8_notes_28 : decode cX8_notes 28 = .ok (.sipush 171, 3) := dk_17 0 171 (dk_at dksX8_notes_1 4 rfl rfl)
theorem dX8_notes_31 : decode cX8_notes 31 = .ok (.iadd, 1) := dk_96 (dk_at dksX8_notes_1 7 rfl rfl)
theorem dX8_notes_32 : decode cX8_notes 32 = .ok (.iaload, 1) := dk_46 (dk_at dksX8_notes_1 8 rfl rfl)
theorem dX8_notes_33 : decode cX8_notes 33 = .ok (.iastore, 1) := dk_79 (dk_at dksX8_notes_1 9 rfl rfl)
theorem dX8_notes_34 : decode cX8_notes 34 = .ok (.iinc 1 1, 3) := dk_132 1 1 (dk_at dksX8_notes_1 10 rfl rfl)
theorem dX8_notes_37 : decode cX8_notes 37 = .ok (.goto (-26), 3) := dk_167 255 230 (dk_at dksX8_notes_1 13 rfl rfl)
theorem dX8_notes_40 : decode cX8_notes 40 = .ok (.aload_n 0, 1) := dk_42 (dk_at dksX8_notes_1 16 rfl rfl)
theorem dX8_notes_41 : decode cX8_notes 41 = .ok (.dup, 1) := dk_89 (dk_at dksX8_notes_1 17 rfl rfl)
theorem dX8_notes_42 : decode cX8_notes 42 = .ok (.getfield 171, 3) := dk_180 0 171 (dk_at dksX8_notes_1 18 rfl rfl)
theorem dX8_notes_45 : decode cX8_notes 45 = .ok (.iconst 1, 1) := dk_4 (dk_at dksX8_notes_1 21 rfl rfl)
theorem dX8_notes_46 : decode cX8_notes 46 = .ok (.isub, 1) := dk_100 (dk_at dksX8_notes_1 22 rfl rfl)
theorem dX8_notes_47 : decode cX8_notes 47 = .ok (.putfield 171, 3) := dk_181 0 171 (dk_at dksX8_notes_2 0 rfl rfl)
theorem dX8_notes_50 : decode cX8_notes 50 = .ok (.aload_n 0, 1) := dk_42 (dk_at dksX8_notes_2 3 rfl rfl)
theorem dX8_notes_51 : decode cX8_notes 51 = .ok (.aload_n 0, 1) := dk_42 (dk_at dksX8_notes_2 4 rfl rfl)
theorem dX8_notes_52 : decode cX8_notes 52 = .ok (.getfield 62, 3) := dk_180 0 62 (dk_at dksX8_notes_2 5 rfl rfl)
theorem dX8_notes_55 : decode cX8_notes 55 = .ok (.sipush 171, 3) := dk_17 0 171 (dk_at dksX8_notes_2 8 rfl rfl)
theorem dX8_notes_58 : decode cX8_notes 58 = .ok (.aload_n 0, 1) := dk_42 (dk_at dksX8_notes_2 11 rfl rfl)
theorem dX8_notes_59 : decode cX8_notes 59 = .ok (.getfield 171, 3) := dk_180 0 171 (dk_at dksX8_notes_2 12 rfl rfl)
theorem dX8_notes_62 : decode cX8_notes 62 = .ok (.imul, 1) := dk_104 (dk_at dksX8_notes_2 15 rfl rfl)
theorem dX8_notes_63 : decode cX8_notes 63 = .ok (.invokevirtual 174, 3) := dk_182 0 174 (dk_at dksX8_notes_2 16 rfl rfl)
theorem dX8_notes_66 : decode cX8_notes 66 = .ok (.aload_n 0, 1) := dk_42 (dk_at dksX8_notes_2 19 rfl rfl)
theorem dX8_notes_67 : decode cX8_notes 67 = .ok (.dup, 1) := dk_89 (dk_at dksX8_notes_2 20 rfl rfl)
theorem dX8_notes_68 : decode cX8_notes 68 = .ok (.getfield 171, 3) := dk_180 0 171 (dk_at dksX8_notes_2 21 rfl rfl)
theorem dX8_notes_71 : decode cX8_notes 71 = .ok (.iconst 1, 1) := dk_4 (dk_at dksX8_notes_3 0 rfl rfl)
theorem dX8_notes_72 : decode cX8_notes 72 = .ok (.iadd, 1) := dk_96 (dk_at dksX8_notes_3 1 rfl rfl)
theorem dX8_notes_73 : decode cX8_notes 73 = .ok (.putfield 171, 3) := dk_181 0 171 (dk_at dksX8_notes_3 2 rfl rfl)
theorem dX8_notes_76 : decode cX8_notes 76 = .ok (.return_, 1) := dk_177 (dk_at dksX8_notes_3 5 rfl rfl)
abbrev cX8_lays : ByteArray := prog_11_method_30_code
def yX8_lays : MethodName := ⟨RX8, "lays", "([II)V"⟩
def dkwX8_lays_7 : List UInt8 := [180, 0, 38, 29, 46, 79, 132, 3, 1, 167, 255, 176, 177]
abbrev dktX8_lays_7 : List UInt8 := dkwX8_lays_7 ++ []
def dkwX8_lays_6 : List UInt8 := [43, 28, 16, 123, 96, 29, 96, 42, 180, 0, 35, 29, 46, 79, 43, 28, 17, 0, 147, 96, 29, 96, 42]
abbrev dktX8_lays_6 : List UInt8 := dkwX8_lays_6 ++ dktX8_lays_7
def dkwX8_lays_5 : List UInt8 := [96, 29, 96, 42, 180, 0, 29, 29, 46, 79, 43, 28, 16, 99, 96, 29, 96, 42, 180, 0, 32, 29, 46, 79]
abbrev dktX8_lays_5 : List UInt8 := dkwX8_lays_5 ++ dktX8_lays_6
def dkwX8_lays_4 : List UInt8 := [29, 16, 24, 162, 0, 80, 43, 28, 16, 51, 96, 29, 96, 42, 180, 0, 26, 29, 46, 79, 43, 28, 16, 75]
abbrev dktX8_lays_4 : List UInt8 := dkwX8_lays_4 ++ dktX8_lays_5
def dkwX8_lays_3 : List UInt8 := [46, 79, 43, 28, 16, 39, 96, 29, 96, 42, 180, 0, 19, 29, 46, 79, 132, 3, 1, 167, 255, 192, 3, 62]
abbrev dktX8_lays_3 : List UInt8 := dkwX8_lays_3 ++ dktX8_lays_4
def dkwX8_lays_2 : List UInt8 := [16, 15, 96, 29, 96, 42, 180, 0, 13, 29, 46, 79, 43, 28, 16, 27, 96, 29, 96, 42, 180, 0, 16, 29]
abbrev dktX8_lays_2 : List UInt8 := dkwX8_lays_2 ++ dktX8_lays_3
def dkwX8_lays_1 : List UInt8 := [79, 3, 62, 29, 16, 12, 162, 0, 64, 43, 28, 6, 96, 29, 96, 42, 180, 0, 7, 29, 46, 79, 43, 28]
abbrev dktX8_lays_1 : List UInt8 := dkwX8_lays_1 ++ dktX8_lays_2
def dkwX8_lays_0 : List UInt8 := [43, 28, 42, 180, 0, 90, 79, 43, 28, 4, 96, 42, 180, 0, 22, 79, 43, 28, 5, 96, 42, 180, 0, 133]
abbrev dktX8_lays_0 : List UInt8 := dkwX8_lays_0 ++ dktX8_lays_1
theorem dksX8_lays_0 : cX8_lays.data.toList.drop 0 = dktX8_lays_0 := by decide +kernel
theorem dksX8_lays_1 : cX8_lays.data.toList.drop 24 = dktX8_lays_1 := dk_seg dksX8_lays_0 24 rfl rfl
theorem dksX8_lays_2 : cX8_lays.data.toList.drop 48 = dktX8_lays_2 := dk_seg dksX8_lays_1 24 rfl rfl
theorem dksX8_lays_3 : cX8_lays.data.toList.drop 72 = dktX8_lays_3 := dk_seg dksX8_lays_2 24 rfl rfl
theorem dksX8_lays_4 : cX8_lays.data.toList.drop 96 = dktX8_lays_4 := dk_seg dksX8_lays_3 24 rfl rfl
theorem dksX8_lays_5 : cX8_lays.data.toList.drop 120 = dktX8_lays_5 := dk_seg dksX8_lays_4 24 rfl rfl
theorem dksX8_lays_6 : cX8_lays.data.toList.drop 144 = dktX8_lays_6 := dk_seg dksX8_lays_5 24 rfl rfl
theorem dksX8_lays_7 : cX8_lays.data.toList.drop 167 = dktX8_lays_7 := dk_seg dksX8_lays_6 23 rfl rfl
theorem dX8_lays_0 : decode cX8_lays 0 = .ok (.aload_n 1, 1) := dk_43 (dk_at dksX8_lays_0 0 rfl rfl)
theorem dX8_lays_1 : decode cX8_lays 1 = .ok (.iload_n 2, 1) := dk_28 (dk_at dksX8_lays_0 1 rfl rfl)
theorem dX8_lays_2 : decode cX8_lays 2 = .ok (.aload_n 0, 1) := dk_42 (dk_at dksX8_lays_0 2 rfl rfl)
theorem dX8_lays_3 : decode cX8_lays 3 = .ok (.getfield 90, 3) := dk_180 0 90 (dk_at dksX8_lays_0 3 rfl rfl)
theorem dX8_lays_6 : decode cX8_lays 6 = .ok (.iastore, 1) := dk_79 (dk_at dksX8_lays_0 6 rfl rfl)
theorem dX8_lays_7 : decode cX8_lays 7 = .ok (.aload_n 1, 1) := dk_43 (dk_at dksX8_lays_0 7 rfl rfl)
theorem dX8_lays_8 : decode cX8_lays 8 = .ok (.iload_n 2, 1) := dk_28 (dk_at dksX8_lays_0 8 rfl rfl)
theorem dX8_lays_9 : decode cX8_lays 9 = .ok (.iconst 1, 1) := dk_4 (dk_at dksX8_lays_0 9 rfl rfl)
theorem dX8_lays_10 : decode cX8_lays 10 = .ok (.iadd, 1) := dk_96 (dk_at dksX8_lays_0 10 rfl rfl)
theorem dX8_lays_11 : decode cX8_lays 11 = .ok (.aload_n 0, 1) := dk_42 (dk_at dksX8_lays_0 11 rfl rfl)
theorem dX8_lays_12 : decode cX8_lays 12 = .ok (.getfield 22, 3) := dk_180 0 22 (dk_at dksX8_lays_0 12 rfl rfl)
theorem dX8_lays_15 : decode cX8_lays 15 = .ok (.iastore, 1) := dk_79 (dk_at dksX8_lays_0 15 rfl rfl)
theorem dX8_lays_16 : decode cX8_lays 16 = .ok (.aload_n 1, 1) := dk_43 (dk_at dksX8_lays_0 16 rfl rfl)
theorem dX8_lays_17 : decode cX8_lays 17 = .ok (.iload_n 2, 1) := dk_28 (dk_at dksX8_lays_0 17 rfl rfl)
theorem dX8_lays_18 : decode cX8_lays 18 = .ok (.iconst 2, 1) := dk_5 (dk_at dksX8_lays_0 18 rfl rfl)
theorem dX8_lays_19 : decode cX8_lays 19 = .ok (.iadd, 1) := dk_96 (dk_at dksX8_lays_0 19 rfl rfl)
theorem dX8_lays_20 : decode cX8_lays 20 = .ok (.aload_n 0, 1) := dk_42 (dk_at dksX8_lays_0 20 rfl rfl)
theorem dX8_lays_21 : decode cX8_lays 21 = .ok (.getfield 133, 3) := dk_180 0 133 (dk_at dksX8_lays_0 21 rfl rfl)
theorem dX8_lays_24 : decode cX8_lays 24 = .ok (.iastore, 1) := dk_79 (dk_at dksX8_lays_1 0 rfl rfl)
theorem dX8_lays_25 : decode cX8_lays 25 = .ok (.iconst 0, 1) := dk_3 (dk_at dksX8_lays_1 1 rfl rfl)
theorem dX8_lays_26 : decode cX8_lays 26 = .ok (.istore_n 3, 1) := dk_62 (dk_at dksX8_lays_1 2 rfl rfl)
theorem dX8_lays_27 : decode cX8_lays 27 = .ok (.iload_n 3, 1) := dk_29 (dk_at dksX8_lays_1 3 rfl rfl)
theorem dX8_lays_28 : decode cX8_lays 28 = .ok (.bipush 12, 2) := dk_16 12 (dk_at dksX8_lays_1 4 rfl rfl)
theorem dX8_lays_30 : decode cX8_lays 30 = .ok (.if_icmp .ge 64, 3) := dk_162 0 64 (dk_at dksX8_lays_1 6 rfl rfl)
theorem dX8_lays_33 : decode cX8_lays 33 = .ok (.aload_n 1, 1) := dk_43 (dk_at dksX8_lays_1 9 rfl rfl)
theorem dX8_lays_34 : decode cX8_lays 34 = .ok (.iload_n 2, 1) := dk_28 (dk_at dksX8_lays_1 10 rfl rfl)
theorem dX8_lays_35 : decode cX8_lays 35 = .ok (.iconst 3, 1) := dk_6 (dk_at dksX8_lays_1 11 rfl rfl)
theorem dX8_lays_36 : decode cX8_lays 36 = .ok (.iadd, 1) := dk_96 (dk_at dksX8_lays_1 12 rfl rfl)
theorem dX8_lays_37 : decode cX8_lays 37 = .ok (.iload_n 3, 1) := dk_29 (dk_at dksX8_lays_1 13 rfl rfl)
theorem dX8_lays_38 : decode cX8_lays 38 = .ok (.iadd, 1) := dk_96 (dk_at dksX8_lays_1 14 rfl rfl)
theorem dX8_lays_39 : decode cX8_lays 39 = .ok (.aload_n 0, 1) := dk_42 (dk_at dksX8_lays_1 15 rfl rfl)
theorem dX8_lays_40 : decode cX8_lays 40 = .ok (.getfield 7, 3) := dk_180 0 7 (dk_at dksX8_lays_1 16 rfl rfl)
theorem dX8_lays_43 : decode cX8_lays 43 = .ok (.iload_n 3, 1) := dk_29 (dk_at dksX8_lays_1 19 rfl rfl)
theorem dX8_lays_44 : decode cX8_lays 44 = .ok (.iaload, 1) := dk_46 (dk_at dksX8_lays_1 20 rfl rfl)
theorem dX8_lays_45 : decode cX8_lays 45 = .ok (.iastore, 1) := dk_79 (dk_at dksX8_lays_1 21 rfl rfl)
theorem dX8_lays_46 : decode cX8_lays 46 = .ok (.aload_n 1, 1) := dk_43 (dk_at dksX8_lays_1 22 rfl rfl)
theorem dX8_lays_47 : decode cX8_lays 47 = .ok (.iload_n 2, 1) := dk_28 (dk_at dksX8_lays_1 23 rfl rfl)
theorem dX8_lays_48 : decode cX8_lays 48 = .ok (.bipush 15, 2) := dk_16 15 (dk_at dksX8_lays_2 0 rfl rfl)
theorem dX8_lays_50 : decode cX8_lays 50 = .ok (.iadd, 1) := dk_96 (dk_at dksX8_lays_2 2 rfl rfl)
theorem dX8_lays_51 : decode cX8_lays 51 = .ok (.iload_n 3, 1) := dk_29 (dk_at dksX8_lays_2 3 rfl rfl)
theorem dX8_lays_52 : decode cX8_lays 52 = .ok (.iadd, 1) := dk_96 (dk_at dksX8_lays_2 4 rfl rfl)
theorem dX8_lays_53 : decode cX8_lays 53 = .ok (.aload_n 0, 1) := dk_42 (dk_at dksX8_lays_2 5 rfl rfl)
theorem dX8_lays_54 : decode cX8_lays 54 = .ok (.getfield 13, 3) := dk_180 0 13 (dk_at dksX8_lays_2 6 rfl rfl)
theorem dX8_lays_57 : decode cX8_lays 57 = .ok (.iload_n 3, 1) := dk_29 (dk_at dksX8_lays_2 9 rfl rfl)
theorem dX8_lays_58 : decode cX8_lays 58 = .ok (.iaload, 1) := dk_46 (dk_at dksX8_lays_2 10 rfl rfl)
theorem dX8_lays_59 : decode cX8_lays 59 = .ok (.iastore, 1) := dk_79 (dk_at dksX8_lays_2 11 rfl rfl)
theorem dX8_lays_60 : decode cX8_lays 60 = .ok (.aload_n 1, 1) := dk_43 (dk_at dksX8_lays_2 12 rfl rfl)
theorem dX8_lays_61 : decode cX8_lays 61 = .ok (.iload_n 2, 1) := dk_28 (dk_at dksX8_lays_2 13 rfl rfl)
theorem dX8_lays_62 : decode cX8_lays 62 = .ok (.bipush 27, 2) := dk_16 27 (dk_at dksX8_lays_2 14 rfl rfl)
theorem dX8_lays_64 : decode cX8_lays 64 = .ok (.iadd, 1) := dk_96 (dk_at dksX8_lays_2 16 rfl rfl)
theorem dX8_lays_65 : decode cX8_lays 65 = .ok (.iload_n 3, 1) := dk_29 (dk_at dksX8_lays_2 17 rfl rfl)
theorem dX8_lays_66 : decode cX8_lays 66 = .ok (.iadd, 1) := dk_96 (dk_at dksX8_lays_2 18 rfl rfl)
theorem dX8_lays_67 : decode cX8_lays 67 = .ok (.aload_n 0, 1) := dk_42 (dk_at dksX8_lays_2 19 rfl rfl)
theorem dX8_lays_68 : decode cX8_lays 68 = .ok (.getfield 16, 3) := dk_180 0 16 (dk_at dksX8_lays_2 20 rfl rfl)
theorem dX8_lays_71 : decode cX8_lays 71 = .ok (.iload_n 3, 1) := dk_29 (dk_at dksX8_lays_2 23 rfl rfl)
theorem dX8_lays_72 : decode cX8_lays 72 = .ok (.iaload, 1) := dk_46 (dk_at dksX8_lays_3 0 rfl rfl)
theorem dX8_lays_73 : decode cX8_lays 73 = .ok (.iastore, 1) := dk_79 (dk_at dksX8_lays_3 1 rfl rfl)
theorem dX8_lays_74 : decode cX8_lays 74 = .ok (.aload_n 1, 1) := dk_43 (dk_at dksX8_lays_3 2 rfl rfl)
theorem dX8_lays_75 : decode cX8_lays 75 = .ok (.iload_n 2, 1) := dk_28 (dk_at dksX8_lays_3 3 rfl rfl)
theorem dX8_lays_76 : decode cX8_lays 76 = .ok (.bipush 39, 2) := dk_16 39 (dk_at dksX8_lays_3 4 rfl rfl)
theorem dX8_lays_78 : decode cX8_lays 78 = .ok (.iadd, 1) := dk_96 (dk_at dksX8_lays_3 6 rfl rfl)
theorem dX8_lays_79 : decode cX8_lays 79 = .ok (.iload_n 3, 1) := dk_29 (dk_at dksX8_lays_3 7 rfl rfl)
theorem dX8_lays_80 : decode cX8_lays 80 = .ok (.iadd, 1) := dk_96 (dk_at dksX8_lays_3 8 rfl rfl)
theorem dX8_lays_81 : decode cX8_lays 81 = .ok (.aload_n 0, 1) := dk_42 (dk_at dksX8_lays_3 9 rfl rfl)
theorem dX8_lays_82 : decode cX8_lays 82 = .ok (.getfield 19, 3) := dk_180 0 19 (dk_at dksX8_lays_3 10 rfl rfl)
theorem dX8_lays_85 : decode cX8_lays 85 = .ok (.iload_n 3, 1) := dk_29 (dk_at dksX8_lays_3 13 rfl rfl)
theorem dX8_lays_86 : decode cX8_lays 86 = .ok (.iaload, 1) := dk_46 (dk_at dksX8_lays_3 14 rfl rfl)
theorem dX8_lays_87 : decode cX8_lays 87 = .ok (.iastore, 1) := dk_79 (dk_at dksX8_lays_3 15 rfl rfl)
theorem dX8_lays_88 : decode cX8_lays 88 = .ok (.iinc 3 1, 3) := dk_132 3 1 (dk_at dksX8_lays_3 16 rfl rfl)
theorem dX8_lays_91 : decode cX8_lays 91 = .ok (.goto (-64), 3) := dk_167 255 192 (dk_at dksX8_lays_3 19 rfl rfl)
theorem dX8_lays_94 : decode cX8_lays 94 = .ok (.iconst 0, 1) := dk_3 (dk_at dksX8_lays_3 22 rfl rfl)
theorem dX8_lays_95 : decode cX8_lays 95 = .ok (.istore_n 3, 1) := dk_62 (dk_at dksX8_lays_3 23 rfl rfl)
theorem dX8_lays_96 : decode cX8_lays 96 = .ok (.iload_n 3, 1) := dk_29 (dk_at dksX8_lays_4 0 rfl rfl)
theorem dX8_lays_97 : decode cX8_lays 97 = .ok (.bipush 24, 2) := dk_16 24 (dk_at dksX8_lays_4 1 rfl rfl)
theorem dX8_lays_99 : decode cX8_lays 99 = .ok (.if_icmp .ge 80, 3) := dk_162 0 80 (dk_at dksX8_lays_4 3 rfl rfl)
theorem dX8_lays_102 : decode cX8_lays 102 = .ok (.aload_n 1, 1) := dk_43 (dk_at dksX8_lays_4 6 rfl rfl)
theorem dX8_lays_103 : decode cX8_lays 103 = .ok (.iload_n 2, 1) := dk_28 (dk_at dksX8_lays_4 7 rfl rfl)
theorem dX8_lays_104 : decode cX8_lays 104 = .ok (.bipush 51, 2) := dk_16 51 (dk_at dksX8_lays_4 8 rfl rfl)
theorem dX8_lays_106 : decode cX8_lays 106 = .ok (.iadd, 1) := dk_96 (dk_at dksX8_lays_4 10 rfl rfl)
theorem dX8_lays_107 : decode cX8_lays 107 = .ok (.iload_n 3, 1) := dk_29 (dk_at dksX8_lays_4 11 rfl rfl)
theorem dX8_lays_108 : decode cX8_lays 108 = .ok (.iadd, 1) := dk_96 (dk_at dksX8_lays_4 12 rfl rfl)
theorem dX8_lays_109 : decode cX8_lays 109 = .ok (.aload_n 0, 1) := dk_42 (dk_at dksX8_lays_4 13 rfl rfl)
theorem dX8_lays_110 : decode cX8_lays 110 = .ok (.getfield 26, 3) := dk_180 0 26 (dk_at dksX8_lays_4 14 rfl rfl)
theorem dX8_lays_113 : decode cX8_lays 113 = .ok (.iload_n 3, 1) := dk_29 (dk_at dksX8_lays_4 17 rfl rfl)
theorem dX8_lays_114 : decode cX8_lays 114 = .ok (.iaload, 1) := dk_46 (dk_at dksX8_lays_4 18 rfl rfl)
theorem dX8_lays_115 : decode cX8_lays 115 = .ok (.iastore, 1) := dk_79 (dk_at dksX8_lays_4 19 rfl rfl)
theorem dX8_lays_116 : decode cX8_lays 116 = .ok (.aload_n 1, 1) := dk_43 (dk_at dksX8_lays_4 20 rfl rfl)
theorem dX8_lays_117 : decode cX8_lays 117 = .ok (.iload_n 2, 1) := dk_28 (dk_at dksX8_lays_4 21 rfl rfl)
theorem dX8_lays_118 : decode cX8_lays 118 = .ok (.bipush 75, 2) := dk_16 75 (dk_at dksX8_lays_4 22 rfl rfl)
theorem dX8_lays_120 : decode cX8_lays 120 = .ok (.iadd, 1) := dk_96 (dk_at dksX8_lays_5 0 rfl rfl)
theorem dX8_lays_121 : decode cX8_lays 121 = .ok (.iload_n 3, 1) := dk_29 (dk_at dksX8_lays_5 1 rfl rfl)
theorem dX8_lays_122 : decode cX8_lays 122 = .ok (.iadd, 1) := dk_96 (dk_at dksX8_lays_5 2 rfl rfl)
theorem dX8_lays_123 : decode cX8_lays 123 = .ok (.aload_n 0, 1) := dk_42 (dk_at dksX8_lays_5 3 rfl rfl)
theorem dX8_lays_124 : decode cX8_lays 124 = .ok (.getfield 29, 3) := dk_180 0 29 (dk_at dksX8_lays_5 4 rfl rfl)
theorem dX8_lays_127 : decode cX8_lays 127 = .ok (.iload_n 3, 1) := dk_29 (dk_at dksX8_lays_5 7 rfl rfl)
theorem dX8_lays_128 : decode cX8_lays 128 = .ok (.iaload, 1) := dk_46 (dk_at dksX8_lays_5 8 rfl rfl)
theorem dX8_lays_129 : decode cX8_lays 129 = .ok (.iastore, 1) := dk_79 (dk_at dksX8_lays_5 9 rfl rfl)
theorem dX8_lays_130 : decode cX8_lays 130 = .ok (.aload_n 1, 1) := dk_43 (dk_at dksX8_lays_5 10 rfl rfl)
theorem dX8_lays_131 : decode cX8_lays 131 = .ok (.iload_n 2, 1) := dk_28 (dk_at dksX8_lays_5 11 rfl rfl)
theorem dX8_lays_132 : decode cX8_lays 132 = .ok (.bipush 99, 2) := dk_16 99 (dk_at dksX8_lays_5 12 rfl rfl)
theorem dX8_lays_134 : decode cX8_lays 134 = .ok (.iadd, 1) := dk_96 (dk_at dksX8_lays_5 14 rfl rfl)
theorem dX8_lays_135 : decode cX8_lays 135 = .ok (.iload_n 3, 1) := dk_29 (dk_at dksX8_lays_5 15 rfl rfl)
theorem dX8_lays_136 : decode cX8_lays 136 = .ok (.iadd, 1) := dk_96 (dk_at dksX8_lays_5 16 rfl rfl)
theorem dX8_lays_137 : decode cX8_lays 137 = .ok (.aload_n 0, 1) := dk_42 (dk_at dksX8_lays_5 17 rfl rfl)
theorem dX8_lays_138 : decode cX8_lays 138 = .ok (.getfield 32, 3) := dk_180 0 32 (dk_at dksX8_lays_5 18 rfl rfl)
theorem dX8_lays_141 : decode cX8_lays 141 = .ok (.iload_n 3, 1) := dk_29 (dk_at dksX8_lays_5 21 rfl rfl)
theorem dX8_lays_142 : decode cX8_lays 142 = .ok (.iaload, 1) := dk_46 (dk_at dksX8_lays_5 22 rfl rfl)
theorem dX8_lays_143 : decode cX8_lays 143 = .ok (.iastore, 1) := dk_79 (dk_at dksX8_lays_5 23 rfl rfl)
theorem dX8_lays_144 : decode cX8_lays 144 = .ok (.aload_n 1, 1) := dk_43 (dk_at dksX8_lays_6 0 rfl rfl)
theorem dX8_lays_145 : decode cX8_lays 145 = .ok (.iload_n 2, 1) := dk_28 (dk_at dksX8_lays_6 1 rfl rfl)
theorem dX8_lays_146 : decode cX8_lays 146 = .ok (.bipush 123, 2) := dk_16 123 (dk_at dksX8_lays_6 2 rfl rfl)
theorem dX8_lays_148 : decode cX8_lays 148 = .ok (.iadd, 1) := dk_96 (dk_at dksX8_lays_6 4 rfl rfl)
theorem dX8_lays_149 : decode cX8_lays 149 = .ok (.iload_n 3, 1) := dk_29 (dk_at dksX8_lays_6 5 rfl rfl)
theorem dX8_lays_150 : decode cX8_lays 150 = .ok (.iadd, 1) := dk_96 (dk_at dksX8_lays_6 6 rfl rfl)
theorem dX8_lays_151 : decode cX8_lays 151 = .ok (.aload_n 0, 1) := dk_42 (dk_at dksX8_lays_6 7 rfl rfl)
theorem dX8_lays_152 : decode cX8_lays 152 = .ok (.getfield 35, 3) := dk_180 0 35 (dk_at dksX8_lays_6 8 rfl rfl)
theorem dX8_lays_155 : decode cX8_lays 155 = .ok (.iload_n 3, 1) := dk_29 (dk_at dksX8_lays_6 11 rfl rfl)
theorem dX8_lays_156 : decode cX8_lays 156 = .ok (.iaload, 1) := dk_46 (dk_at dksX8_lays_6 12 rfl rfl)
theorem dX8_lays_157 : decode cX8_lays 157 = .ok (.iastore, 1) := dk_79 (dk_at dksX8_lays_6 13 rfl rfl)
theorem dX8_lays_158 : decode cX8_lays 158 = .ok (.aload_n 1, 1) := dk_43 (dk_at dksX8_lays_6 14 rfl rfl)
theorem dX8_lays_159 : decode cX8_lays 159 = .ok (.iload_n 2, 1) := dk_28 (dk_at dksX8_lays_6 15 rfl rfl)
theorem dX8_lays_160 : decode cX8_lays 160 = .ok (.sipush 147, 3) := dk_17 0 147 (dk_at dksX8_lays_6 16 rfl rfl)
theorem dX8_lays_163 : decode cX8_lays 163 = .ok (.iadd, 1) := dk_96 (dk_at dksX8_lays_6 19 rfl rfl)
theorem dX8_lays_164 : decode cX8_lays 164 = .ok (.iload_n 3, 1) := dk_29 (dk_at dksX8_lays_6 20 rfl rfl)
theorem dX8_lays_165 : decode cX8_lays 165 = .ok (.iadd, 1) := dk_96 (dk_at dksX8_lays_6 21 rfl rfl)
theorem dX8_lays_166 : decode cX8_lays 166 = .ok (.aload_n 0, 1) := dk_42 (dk_at dksX8_lays_6 22 rfl rfl)
theorem dX8_lays_167 : decode cX8_lays 167 = .ok (.getfield 38, 3) := dk_180 0 38 (dk_at dksX8_lays_7 0 rfl rfl)
theorem dX8_lays_170 : decode cX8_lays 170 = .ok (.iload_n 3, 1) := dk_29 (dk_at dksX8_lays_7 3 rfl rfl)
theorem dX8_lays_171 : decode cX8_lays 171 = .ok (.iaload, 1) := dk_46 (dk_at dksX8_lays_7 4 rfl rfl)
theorem dX8_lays_172 : decode cX8_lays 172 = .ok (.iastore, 1) := dk_79 (dk_at dksX8_lays_7 5 rfl rfl)
theorem dX8_lays_173 : decode cX8_lays 173 = .ok (.iinc 3 1, 3) := dk_132 3 1 (dk_at dksX8_lays_7 6 rfl rfl)
theorem dX8_lays_176 : decode cX8_lays 176 = .ok (.goto (-80), 3) := dk_167 255 176 (dk_at dksX8_lays_7 9 rfl rfl)
theorem dX8_lays_179 : decode cX8_lays 179 = .ok (.return_, 1) := dk_177 (dk_at dksX8_lays_7 12 rfl rfl)
abbrev cX8_cut : ByteArray := prog_11_method_35_code
def yX8_cut : MethodName := ⟨RX8, "cut", "(I)I"⟩
def dkwX8_cut_1 : List UInt8 := [182, 0, 184, 42, 27, 182, 0, 187, 42, 182, 0, 181, 172]
abbrev dktX8_cut_1 : List UInt8 := dkwX8_cut_1 ++ []
def dkwX8_cut_0 : List UInt8 := [42, 27, 182, 0, 159, 154, 0, 5, 2, 172, 42, 182, 0, 181, 4, 160, 0, 6, 16, 254, 172, 42]
abbrev dktX8_cut_0 : List UInt8 := dkwX8_cut_0 ++ dktX8_cut_1
theorem dksX8_cut_0 : cX8_cut.data.toList.drop 0 = dktX8_cut_0 := by decide +kernel
theorem dksX8_cut_1 : cX8_cut.data.toList.drop 22 = dktX8_cut_1 := dk_seg dksX8_cut_0 22 rfl rfl
theorem dX8_cut_0 : decode cX8_cut 0 = .ok (.aload_n 0, 1) := dk_42 (dk_at dksX8_cut_0 0 rfl rfl)
theorem dX8_cut_1 : decode cX8_cut 1 = .ok (.iload_n 1, 1) := dk_27 (dk_at dksX8_cut_0 1 rfl rfl)
theorem dX8_cut_2 : decode cX8_cut 2 = .ok (.invokevirtual 159, 3) := dk_182 0 159 (dk_at dksX8_cut_0 2 rfl rfl)
theorem dX8_cut_5 : decode cX8_cut 5 = .ok (.ifCond .ne 5, 3) := dk_154 0 5 (dk_at dksX8_cut_0 5 rfl rfl)
theorem dX8_cut_8 : decode cX8_cut 8 = .ok (.iconst (-1), 1) := dk_2 (dk_at dksX8_cut_0 8 rfl rfl)
theorem dX8_cut_9 : decode cX8_cut 9 = .ok (.ireturn, 1) := dk_172 (dk_at dksX8_cut_0 9 rfl rfl)
theorem dX8_cut_10 : decode cX8_cut 10 = .ok (.aload_n 0, 1) := dk_42 (dk_at dksX8_cut_0 10 rfl rfl)
theorem dX8_cut_11 : decode cX8_cut 11 = .ok (.invokevirtual 181, 3) := dk_182 0 181 (dk_at dksX8_cut_0 11 rfl rfl)
theorem dX8_cut_14 : decode cX8_cut 14 = .ok (.iconst 1, 1) := dk_4 (dk_at dksX8_cut_0 14 rfl rfl)
theorem dX8_cut_15 : decode cX8_cut 15 = .ok (.if_icmp .ne 6, 3) := dk_160 0 6 (dk_at dksX8_cut_0 15 rfl rfl)
theorem dX8_cut_18 : decode cX8_cut 18 = .ok (.bipush (-2), 2) := dk_16 254 (dk_at dksX8_cut_0 18 rfl rfl)
theorem dX8_cut_20 : decode cX8_cut 20 = .ok (.ireturn, 1) := dk_172 (dk_at dksX8_cut_0 20 rfl rfl)
theorem dX8_cut_21 : decode cX8_cut 21 = .ok (.aload_n 0, 1) := dk_42 (dk_at dksX8_cut_0 21 rfl rfl)
theorem dX8_cut_22 : decode cX8_cut 22 = .ok (.invokevirtual 184, 3) := dk_182 0 184 (dk_at dksX8_cut_1 0 rfl rfl)
theorem dX8_cut_25 : decode cX8_cut 25 = .ok (.aload_n 0, 1) := dk_42 (dk_at dksX8_cut_1 3 rfl rfl)
theorem dX8_cut_26 : decode cX8_cut 26 = .ok (.iload_n 1, 1) := dk_27 (dk_at dksX8_cut_1 4 rfl rfl)
theorem dX8_cut_27 : decode cX8_cut 27 = .ok (.invokevirtual 187, 3) := dk_182 0 187 (dk_at dksX8_cut_1 5 rfl rfl)
theorem dX8_cut_30 : decode cX8_cut 30 = .ok (.aload_n 0, 1) := dk_42 (dk_at dksX8_cut_1 8 rfl rfl)
theorem dX8_cut_31 : decode cX8_cut 31 = .ok (.invokevirtual 181, 3) := dk_182 0 181 (dk_at dksX8_cut_1 9 rfl rfl)
theorem dX8_cut_34 : decode cX8_cut 34 = .ok (.ireturn, 1) := dk_172 (dk_at dksX8_cut_1 12 rfl rfl)
abbrev cX8_goes : ByteArray := prog_11_method_22_code
def yX8_goes : MethodName := ⟨RX8, "goes", "(I)V"⟩
def dkwX8_goes_5 : List UInt8 := [16, 254, 79, 42, 89, 180, 0, 90, 4, 27, 120, 2, 130, 126, 181, 0, 90, 42, 29, 182, 0, 140, 177]
abbrev dktX8_goes_5 : List UInt8 := dkwX8_goes_5 ++ []
def dkwX8_goes_4 : List UInt8 := [21, 4, 46, 79, 42, 180, 0, 38, 29, 42, 180, 0, 38, 21, 4, 46, 79, 42, 180, 0, 26, 21, 4]
abbrev dktX8_goes_4 : List UInt8 := dkwX8_goes_4 ++ dktX8_goes_5
def dkwX8_goes_3 : List UInt8 := [46, 79, 42, 180, 0, 32, 29, 42, 180, 0, 32, 21, 4, 46, 79, 42, 180, 0, 35, 29, 42, 180, 0, 35]
abbrev dktX8_goes_3 : List UInt8 := dkwX8_goes_3 ++ dktX8_goes_4
def dkwX8_goes_2 : List UInt8 := [42, 180, 0, 26, 29, 42, 180, 0, 26, 21, 4, 46, 79, 42, 180, 0, 29, 29, 42, 180, 0, 29, 21, 4]
abbrev dktX8_goes_2 : List UInt8 := dkwX8_goes_2 ++ dktX8_goes_3
def dkwX8_goes_1 : List UInt8 := [180, 0, 29, 29, 46, 167, 0, 9, 42, 180, 0, 26, 29, 46, 54, 4, 42, 180, 0, 26, 28, 16, 254, 79]
abbrev dktX8_goes_1 : List UInt8 := dkwX8_goes_1 ++ dktX8_goes_2
def dkwX8_goes_0 : List UInt8 := [42, 27, 182, 0, 143, 61, 42, 28, 182, 0, 109, 62, 42, 180, 0, 26, 29, 46, 28, 160, 0, 12, 42]
abbrev dktX8_goes_0 : List UInt8 := dkwX8_goes_0 ++ dktX8_goes_1
theorem dksX8_goes_0 : cX8_goes.data.toList.drop 0 = dktX8_goes_0 := by decide +kernel
theorem dksX8_goes_1 : cX8_goes.data.toList.drop 23 = dktX8_goes_1 := dk_seg dksX8_goes_0 23 rfl rfl
theorem dksX8_goes_2 : cX8_goes.data.toList.drop 47 = dktX8_goes_2 := dk_seg dksX8_goes_1 24 rfl rfl
theorem dksX8_goes_3 : cX8_goes.data.toList.drop 71 = dktX8_goes_3 := dk_seg dksX8_goes_2 24 rfl rfl
theorem dksX8_goes_4 : cX8_goes.data.toList.drop 95 = dktX8_goes_4 := dk_seg dksX8_goes_3 24 rfl rfl
theorem dksX8_goes_5 : cX8_goes.data.toList.drop 118 = dktX8_goes_5 := dk_seg dksX8_goes_4 23 rfl rfl
theorem dX8_goes_0 : decode cX8_goes 0 = .ok (.aload_n 0, 1) := dk_42 (dk_at dksX8_goes_0 0 rfl rfl)
theorem dX8_goes_1 : decode cX8_goes 1 = .ok (.iload_n 1, 1) := dk_27 (dk_at dksX8_goes_0 1 rfl rfl)
theorem dX8_goes_2 : decode cX8_goes 2 = .ok (.invokevirtual 143, 3) := dk_182 0 143 (dk_at dksX8_goes_0 2 rfl rfl)
theorem dX8_goes_5 : decode cX8_goes 5 = .ok (.istore_n 2, 1) := dk_61 (dk_at dksX8_goes_0 5 rfl rfl)
theorem dX8_goes_6 : decode cX8_goes 6 = .ok (.aload_n 0, 1) := dk_42 (dk_at dksX8_goes_0 6 rfl rfl)
theorem dX8_goes_7 : decode cX8_goes 7 = .ok (.iload_n 2, 1) := dk_28 (dk_at dksX8_goes_0 7 rfl rfl)
theorem dX8_goes_8 : decode cX8_goes 8 = .ok (.invokevirtual 109, 3) := dk_182 0 109 (dk_at dksX8_goes_0 8 rfl rfl)
theorem dX8_goes_11 : decode cX8_goes 11 = .ok (.istore_n 3, 1) := dk_62 (dk_at dksX8_goes_0 11 rfl rfl)
theorem dX8_goes_12 : decode cX8_goes 12 = .ok (.aload_n 0, 1) := dk_42 (dk_at dksX8_goes_0 12 rfl rfl)
theorem dX8_goes_13 : decode cX8_goes 13 = .ok (.getfield 26, 3) := dk_180 0 26 (dk_at dksX8_goes_0 13 rfl rfl)
theorem dX8_goes_16 : decode cX8_goes 16 = .ok (.iload_n 3, 1) := dk_29 (dk_at dksX8_goes_0 16 rfl rfl)
theorem dX8_goes_17 : decode cX8_goes 17 = .ok (.iaload, 1) := dk_46 (dk_at dksX8_goes_0 17 rfl rfl)
theorem dX8_goes_18 : decode cX8_goes 18 = .ok (.iload_n 2, 1) := dk_28 (dk_at dksX8_goes_0 18 rfl rfl)
theorem dX8_goes_19 : decode cX8_goes 19 = .ok (.if_icmp .ne 12, 3) := dk_160 0 12 (dk_at dksX8_goes_0 19 rfl rfl)
theorem dX8_goes_22 : decode cX8_goes 22 = .ok (.aload_n 0, 1) := dk_42 (dk_at dksX8_goes_0 22 rfl rfl)
theorem dX8_goes_23 : decode cX8_goes 23 = .ok (.getfield 29, 3) := dk_180 0 29 (dk_at dksX8_goes_1 0 rfl rfl)
theorem dX8_goes_26 : decode cX8_goes 26 = .ok (.iload_n 3, 1) := dk_29 (dk_at dksX8_goes_1 3 rfl rfl)
theorem dX8_goes_27 : decode cX8_goes 27 = .ok (.iaload, 1) := dk_46 (dk_at dksX8_goes_1 4 rfl rfl)
theorem dX8_goes_28 : decode cX8_goes 28 = .ok (.goto 9, 3) := dk_167 0 9 (dk_at dksX8_goes_1 5 rfl rfl)
theorem dX8_goes_31 : decode cX8_goes 31 = .ok (.aload_n 0, 1) := dk_42 (dk_at dksX8_goes_1 8 rfl rfl)
theorem dX8_goes_32 : decode cX8_goes 32 = .ok (.getfield 26, 3) := dk_180 0 26 (dk_at dksX8_goes_1 9 rfl rfl)
theorem dX8_goes_35 : decode cX8_goes 35 = .ok (.iload_n 3, 1) := dk_29 (dk_at dksX8_goes_1 12 rfl rfl)
theorem dX8_goes_36 : decode cX8_goes 36 = .ok (.iaload, 1) := dk_46 (dk_at dksX8_goes_1 13 rfl rfl)
theorem dX8_goes_37 : decode cX8_goes 37 = .ok (.istore 4, 2) := dk_54 4 (dk_at dksX8_goes_1 14 rfl rfl)
theorem dX8_goes_39 : decode cX8_goes 39 = .ok (.aload_n 0, 1) := dk_42 (dk_at dksX8_goes_1 16 rfl rfl)
theorem dX8_goes_40 : decode cX8_goes 40 = .ok (.getfield 26, 3) := dk_180 0 26 (dk_at dksX8_goes_1 17 rfl rfl)
theorem dX8_goes_43 : decode cX8_goes 43 = .ok (.iload_n 2, 1) := dk_28 (dk_at dksX8_goes_1 20 rfl rfl)
theorem dX8_goes_44 : decode cX8_goes 44 = .ok (.bipush (-2), 2) := dk_16 254 (dk_at dksX8_goes_1 21 rfl rfl)
theorem dX8_goes_46 : decode cX8_goes 46 = .ok (.iastore, 1) := dk_79 (dk_at dksX8_goes_1 23 rfl rfl)
theorem dX8_goes_47 : decode cX8_goes 47 = .ok (.aload_n 0, 1) := dk_42 (dk_at dksX8_goes_2 0 rfl rfl)
theorem dX8_goes_48 : decode cX8_goes 48 = .ok (.getfield 26, 3) := dk_180 0 26 (dk_at dksX8_goes_2 1 rfl rfl)
theorem dX8_goes_51 : decode cX8_goes 51 = .ok (.iload_n 3, 1) := dk_29 (dk_at dksX8_goes_2 4 rfl rfl)
theorem dX8_goes_52 : decode cX8_goes 52 = .ok (.aload_n 0, 1) := dk_42 (dk_at dksX8_goes_2 5 rfl rfl)
theorem dX8_goes_53 : decode cX8_goes 53 = .ok (.getfield 26, 3) := dk_180 0 26 (dk_at dksX8_goes_2 6 rfl rfl)
theorem dX8_goes_56 : decode cX8_goes 56 = .ok (.iload 4, 2) := dk_21 4 (dk_at dksX8_goes_2 9 rfl rfl)
theorem dX8_goes_58 : decode cX8_goes 58 = .ok (.iaload, 1) := dk_46 (dk_at dksX8_goes_2 11 rfl rfl)
theorem dX8_goes_59 : decode cX8_goes 59 = .ok (.iastore, 1) := dk_79 (dk_at dksX8_goes_2 12 rfl rfl)
theorem dX8_goes_60 : decode cX8_goes 60 = .ok (.aload_n 0, 1) := dk_42 (dk_at dksX8_goes_2 13 rfl rfl)
theorem dX8_goes_61 : decode cX8_goes 61 = .ok (.getfield 29, 3) := dk_180 0 29 (dk_at dksX8_goes_2 14 rfl rfl)
theorem dX8_goes_64 : decode cX8_goes 64 = .ok (.iload_n 3, 1) := dk_29 (dk_at dksX8_goes_2 17 rfl rfl)
theorem dX8_goes_65 : decode cX8_goes 65 = .ok (.aload_n 0, 1) := dk_42 (dk_at dksX8_goes_2 18 rfl rfl)
theorem dX8_goes_66 : decode cX8_goes 66 = .ok (.getfield 29, 3) := dk_180 0 29 (dk_at dksX8_goes_2 19 rfl rfl)
theorem dX8_goes_69 : decode cX8_goes 69 = .ok (.iload 4, 2) := dk_21 4 (dk_at dksX8_goes_2 22 rfl rfl)
theorem dX8_goes_71 : decode cX8_goes 71 = .ok (.iaload, 1) := dk_46 (dk_at dksX8_goes_3 0 rfl rfl)
theorem dX8_goes_72 : decode cX8_goes 72 = .ok (.iastore, 1) := dk_79 (dk_at dksX8_goes_3 1 rfl rfl)
theorem dX8_goes_73 : decode cX8_goes 73 = .ok (.aload_n 0, 1) := dk_42 (dk_at dksX8_goes_3 2 rfl rfl)
theorem dX8_goes_74 : decode cX8_goes 74 = .ok (.getfield 32, 3) := dk_180 0 32 (dk_at dksX8_goes_3 3 rfl rfl)
theorem dX8_goes_77 : decode cX8_goes 77 = .ok (.iload_n 3, 1) := dk_29 (dk_at dksX8_goes_3 6 rfl rfl)
theorem dX8_goes_78 : decode cX8_goes 78 = .ok (.aload_n 0, 1) := dk_42 (dk_at dksX8_goes_3 7 rfl rfl)
theorem dX8_goes_79 : decode cX8_goes 79 = .ok (.getfield 32, 3) := dk_180 0 32 (dk_at dksX8_goes_3 8 rfl rfl)
theorem dX8_goes_82 : decode cX8_goes 82 = .ok (.iload 4, 2) := dk_21 4 (dk_at dksX8_goes_3 11 rfl rfl)
theorem dX8_goes_84 : decode cX8_goes 84 = .ok (.iaload, 1) := dk_46 (dk_at dksX8_goes_3 13 rfl rfl)
theorem dX8_goes_85 : decode cX8_goes 85 = .ok (.iastore, 1) := dk_79 (dk_at dksX8_goes_3 14 rfl rfl)
theorem dX8_goes_86 : decode cX8_goes 86 = .ok (.aload_n 0, 1) := dk_42 (dk_at dksX8_goes_3 15 rfl rfl)
theorem dX8_goes_87 : decode cX8_goes 87 = .ok (.getfield 35, 3) := dk_180 0 35 (dk_at dksX8_goes_3 16 rfl rfl)
theorem dX8_goes_90 : decode cX8_goes 90 = .ok (.iload_n 3, 1) := dk_29 (dk_at dksX8_goes_3 19 rfl rfl)
theorem dX8_goes_91 : decode cX8_goes 91 = .ok (.aload_n 0, 1) := dk_42 (dk_at dksX8_goes_3 20 rfl rfl)
theorem dX8_goes_92 : decode cX8_goes 92 = .ok (.getfield 35, 3) := dk_180 0 35 (dk_at dksX8_goes_3 21 rfl rfl)
theorem dX8_goes_95 : decode cX8_goes 95 = .ok (.iload 4, 2) := dk_21 4 (dk_at dksX8_goes_4 0 rfl rfl)
theorem dX8_goes_97 : decode cX8_goes 97 = .ok (.iaload, 1) := dk_46 (dk_at dksX8_goes_4 2 rfl rfl)
theorem dX8_goes_98 : decode cX8_goes 98 = .ok (.iastore, 1) := dk_79 (dk_at dksX8_goes_4 3 rfl rfl)
theorem dX8_goes_99 : decode cX8_goes 99 = .ok (.aload_n 0, 1) := dk_42 (dk_at dksX8_goes_4 4 rfl rfl)
theorem dX8_goes_100 : decode cX8_goes 100 = .ok (.getfield 38, 3) := dk_180 0 38 (dk_at dksX8_goes_4 5 rfl rfl)
theorem dX8_goes_103 : decode cX8_goes 103 = .ok (.iload_n 3, 1) := dk_29 (dk_at dksX8_goes_4 8 rfl rfl)
theorem dX8_goes_104 : decode cX8_goes 104 = .ok (.aload_n 0, 1) := dk_42 (dk_at dksX8_goes_4 9 rfl rfl)
theorem dX8_goes_105 : decode cX8_goes 105 = .ok (.getfield 38, 3) := dk_180 0 38 (dk_at dksX8_goes_4 10 rfl rfl)
theorem dX8_goes_108 : decode cX8_goes 108 = .ok (.iload 4, 2) := dk_21 4 (dk_at dksX8_goes_4 13 rfl rfl)
theorem dX8_goes_110 : decode cX8_goes 110 = .ok (.iaload, 1) := dk_46 (dk_at dksX8_goes_4 15 rfl rfl)
theorem dX8_goes_111 : decode cX8_goes 111 = .ok (.iastore, 1) := dk_79 (dk_at dksX8_goes_4 16 rfl rfl)
theorem dX8_goes_112 : decode cX8_goes 112 = .ok (.aload_n 0, 1) := dk_42 (dk_at dksX8_goes_4 17 rfl rfl)
theorem dX8_goes_113 : decode cX8_goes 113 = .ok (.getfield 26, 3) := dk_180 0 26 (dk_at dksX8_goes_4 18 rfl rfl)
theorem dX8_goes_116 : decode cX8_goes 116 = .ok (.iload 4, 2) := dk_21 4 (dk_at dksX8_goes_4 21 rfl rfl)
theorem dX8_goes_118 : decode cX8_goes 118 = .ok (.bipush (-2), 2) := dk_16 254 (dk_at dksX8_goes_5 0 rfl rfl)
theorem dX8_goes_120 : decode cX8_goes 120 = .ok (.iastore, 1) := dk_79 (dk_at dksX8_goes_5 2 rfl rfl)
theorem dX8_goes_121 : decode cX8_goes 121 = .ok (.aload_n 0, 1) := dk_42 (dk_at dksX8_goes_5 3 rfl rfl)
theorem dX8_goes_122 : decode cX8_goes 122 = .ok (.dup, 1) := dk_89 (dk_at dksX8_goes_5 4 rfl rfl)
theorem dX8_goes_123 : decode cX8_goes 123 = .ok (.getfield 90, 3) := dk_180 0 90 (dk_at dksX8_goes_5 5 rfl rfl)
theorem dX8_goes_126 : decode cX8_goes 126 = .ok (.iconst 1, 1) := dk_4 (dk_at dksX8_goes_5 8 rfl rfl)
theorem dX8_goes_127 : decode cX8_goes 127 = .ok (.iload_n 1, 1) := dk_27 (dk_at dksX8_goes_5 9 rfl rfl)
theorem dX8_goes_128 : decode cX8_goes 128 = .ok (.ishl, 1) := dk_120 (dk_at dksX8_goes_5 10 rfl rfl)
theorem dX8_goes_129 : decode cX8_goes 129 = .ok (.iconst (-1), 1) := dk_2 (dk_at dksX8_goes_5 11 rfl rfl)
theorem dX8_goes_130 : decode cX8_goes 130 = .ok (.ixor, 1) := dk_130 (dk_at dksX8_goes_5 12 rfl rfl)
theorem dX8_goes_131 : decode cX8_goes 131 = .ok (.iand, 1) := dk_126 (dk_at dksX8_goes_5 13 rfl rfl)
theorem dX8_goes_132 : decode cX8_goes 132 = .ok (.putfield 90, 3) := dk_181 0 90 (dk_at dksX8_goes_5 14 rfl rfl)
theorem dX8_goes_135 : decode cX8_goes 135 = .ok (.aload_n 0, 1) := dk_42 (dk_at dksX8_goes_5 17 rfl rfl)
theorem dX8_goes_136 : decode cX8_goes 136 = .ok (.iload_n 3, 1) := dk_29 (dk_at dksX8_goes_5 18 rfl rfl)
theorem dX8_goes_137 : decode cX8_goes 137 = .ok (.invokevirtual 140, 3) := dk_182 0 140 (dk_at dksX8_goes_5 19 rfl rfl)
theorem dX8_goes_140 : decode cX8_goes 140 = .ok (.return_, 1) := dk_177 (dk_at dksX8_goes_5 22 rfl rfl)
abbrev cX8_delay : ByteArray := prog_11_method_36_code
def yX8_delay : MethodName := ⟨RX8, "delay", "(II)I"⟩
def dkwX8_delay_1 : List UInt8 := [27, 46, 62, 29, 28, 160, 0, 6, 16, 254, 172, 42, 182, 0, 184, 42, 180, 0, 16, 27, 28, 79, 29, 172]
abbrev dktX8_delay_1 : List UInt8 := dkwX8_delay_1 ++ []
def dkwX8_delay_0 : List UInt8 := [42, 27, 182, 0, 159, 153, 0, 13, 28, 3, 16, 99, 184, 0, 93, 154, 0, 5, 2, 172, 42, 180, 0, 16]
abbrev dktX8_delay_0 : List UInt8 := dkwX8_delay_0 ++ dktX8_delay_1
theorem dksX8_delay_0 : cX8_delay.data.toList.drop 0 = dktX8_delay_0 := by decide +kernel
theorem dksX8_delay_1 : cX8_delay.data.toList.drop 24 = dktX8_delay_1 := dk_seg dksX8_delay_0 24 rfl rfl
theorem dX8_delay_0 : decode cX8_delay 0 = .ok (.aload_n 0, 1) := dk_42 (dk_at dksX8_delay_0 0 rfl rfl)
theorem dX8_delay_1 : decode cX8_delay 1 = .ok (.iload_n 1, 1) := dk_27 (dk_at dksX8_delay_0 1 rfl rfl)
theorem dX8_delay_2 : decode cX8_delay 2 = .ok (.invokevirtual 159, 3) := dk_182 0 159 (dk_at dksX8_delay_0 2 rfl rfl)
theorem dX8_delay_5 : decode cX8_delay 5 = .ok (.ifCond .eq 13, 3) := dk_153 0 13 (dk_at dksX8_delay_0 5 rfl rfl)
theorem dX8_delay_8 : decode cX8_delay 8 = .ok (.iload_n 2, 1) := dk_28 (dk_at dksX8_delay_0 8 rfl rfl)
theorem dX8_delay_9 : decode cX8_delay 9 = .ok (.iconst 0, 1) := dk_3 (dk_at dksX8_delay_0 9 rfl rfl)
theorem dX8_delay_10 : decode cX8_delay 10 = .ok (.bipush 99, 2) := dk_16 99 (dk_at dksX8_delay_0 10 rfl rfl)
theorem dX8_delay_12 : decode cX8_delay 12 = .ok (.invokestatic 93, 3) := dk_184 0 93 (dk_at dksX8_delay_0 12 rfl rfl)
theorem dX8_delay_15 : decode cX8_delay 15 = .ok (.ifCond .ne 5, 3) := dk_154 0 5 (dk_at dksX8_delay_0 15 rfl rfl)
theorem dX8_delay_18 : decode cX8_delay 18 = .ok (.iconst (-1), 1) := dk_2 (dk_at dksX8_delay_0 18 rfl rfl)
theorem dX8_delay_19 : decode cX8_delay 19 = .ok (.ireturn, 1) := dk_172 (dk_at dksX8_delay_0 19 rfl rfl)
theorem dX8_delay_20 : decode cX8_delay 20 = .ok (.aload_n 0, 1) := dk_42 (dk_at dksX8_delay_0 20 rfl rfl)
theorem dX8_delay_21 : decode cX8_delay 21 = .ok (.getfield 16, 3) := dk_180 0 16 (dk_at dksX8_delay_0 21 rfl rfl)
theorem dX8_delay_24 : decode cX8_delay 24 = .ok (.iload_n 1, 1) := dk_27 (dk_at dksX8_delay_1 0 rfl rfl)
theorem dX8_delay_25 : decode cX8_delay 25 = .ok (.iaload, 1) := dk_46 (dk_at dksX8_delay_1 1 rfl rfl)
theorem dX8_delay_26 : decode cX8_delay 26 = .ok (.istore_n 3, 1) := dk_62 (dk_at dksX8_delay_1 2 rfl rfl)
theorem dX8_delay_27 : decode cX8_delay 27 = .ok (.iload_n 3, 1) := dk_29 (dk_at dksX8_delay_1 3 rfl rfl)
theorem dX8_delay_28 : decode cX8_delay 28 = .ok (.iload_n 2, 1) := dk_28 (dk_at dksX8_delay_1 4 rfl rfl)
theorem dX8_delay_29 : decode cX8_delay 29 = .ok (.if_icmp .ne 6, 3) := dk_160 0 6 (dk_at dksX8_delay_1 5 rfl rfl)
theorem dX8_delay_32 : decode cX8_delay 32 = .ok (.bipush (-2), 2) := dk_16 254 (dk_at dksX8_delay_1 8 rfl rfl)
theorem dX8_delay_34 : decode cX8_delay 34 = .ok (.ireturn, 1) := dk_172 (dk_at dksX8_delay_1 10 rfl rfl)
theorem dX8_delay_35 : decode cX8_delay 35 = .ok (.aload_n 0, 1) := dk_42 (dk_at dksX8_delay_1 11 rfl rfl)
theorem dX8_delay_36 : decode cX8_delay 36 = .ok (.invokevirtual 184, 3) := dk_182 0 184 (dk_at dksX8_delay_1 12 rfl rfl)
theorem dX8_delay_39 : decode cX8_delay 39 = .ok (.aload_n 0, 1) := dk_42 (dk_at dksX8_delay_1 15 rfl rfl)
theorem dX8_delay_40 : decode cX8_delay 40 = .ok (.getfield 16, 3) := dk_180 0 16 (dk_at dksX8_delay_1 16 rfl rfl)
theorem dX8_delay_43 : decode cX8_delay 43 = .ok (.iload_n 1, 1) := dk_27 (dk_at dksX8_delay_1 19 rfl rfl)
theorem dX8_delay_44 : decode cX8_delay 44 = .ok (.iload_n 2, 1) := dk_28 (dk_at dksX8_delay_1 20 rfl rfl)
theorem dX8_delay_45 : decode cX8_delay 45 = .ok (.iastore, 1) := dk_79 (dk_at dksX8_delay_1 21 rfl rfl)
theorem dX8_delay_46 : decode cX8_delay 46 = .ok (.iload_n 3, 1) := dk_29 (dk_at dksX8_delay_1 22 rfl rfl)
theorem dX8_delay_47 : decode cX8_delay 47 = .ok (.ireturn, 1) := dk_172 (dk_at dksX8_delay_1 23 rfl rfl)
abbrev cX8_level : ByteArray := prog_11_method_38_code
def yX8_level : MethodName := ⟨RX8, "level", "()I"⟩
def dkwX8_level_0 : List UInt8 := [42, 182, 0, 184, 42, 42, 180, 0, 22, 182, 0, 130, 42, 182, 0, 190, 172]
abbrev dktX8_level_0 : List UInt8 := dkwX8_level_0 ++ []
theorem dksX8_level_0 : cX8_level.data.toList.drop 0 = dktX8_level_0 := by decide +kernel
theorem dX8_level_0 : decode cX8_level 0 = .ok (.aload_n 0, 1) := dk_42 (dk_at dksX8_level_0 0 rfl rfl)
theorem dX8_level_1 : decode cX8_level 1 = .ok (.invokevirtual 184, 3) := dk_182 0 184 (dk_at dksX8_level_0 1 rfl rfl)
theorem dX8_level_4 : decode cX8_level 4 = .ok (.aload_n 0, 1) := dk_42 (dk_at dksX8_level_0 4 rfl rfl)
theorem dX8_level_5 : decode cX8_level 5 = .ok (.aload_n 0, 1) := dk_42 (dk_at dksX8_level_0 5 rfl rfl)
theorem dX8_level_6 : decode cX8_level 6 = .ok (.getfield 22, 3) := dk_180 0 22 (dk_at dksX8_level_0 6 rfl rfl)
theorem dX8_level_9 : decode cX8_level 9 = .ok (.invokevirtual 130, 3) := dk_182 0 130 (dk_at dksX8_level_0 9 rfl rfl)
theorem dX8_level_12 : decode cX8_level 12 = .ok (.aload_n 0, 1) := dk_42 (dk_at dksX8_level_0 12 rfl rfl)
theorem dX8_level_13 : decode cX8_level 13 = .ok (.invokevirtual 190, 3) := dk_182 0 190 (dk_at dksX8_level_0 13 rfl rfl)
theorem dX8_level_16 : decode cX8_level 16 = .ok (.ireturn, 1) := dk_172 (dk_at dksX8_level_0 16 rfl rfl)
abbrev cX8_deepest : ByteArray := prog_11_method_37_code
def yX8_deepest : MethodName := ⟨RX8, "deepest", "()I"⟩
def dkwX8_deepest_1 : List UInt8 := [29, 27, 164, 0, 7, 29, 167, 0, 4, 27, 60, 132, 2, 1, 167, 255, 222, 27, 172]
abbrev dktX8_deepest_1 : List UInt8 := dkwX8_deepest_1 ++ []
def dkwX8_deepest_0 : List UInt8 := [3, 60, 3, 61, 28, 16, 24, 162, 0, 34, 42, 28, 182, 0, 113, 153, 0, 20, 42, 28, 182, 0, 165, 62]
abbrev dktX8_deepest_0 : List UInt8 := dkwX8_deepest_0 ++ dktX8_deepest_1
theorem dksX8_deepest_0 : cX8_deepest.data.toList.drop 0 = dktX8_deepest_0 := by decide +kernel
theorem dksX8_deepest_1 : cX8_deepest.data.toList.drop 24 = dktX8_deepest_1 := dk_seg dksX8_deepest_0 24 rfl rfl
theorem dX8_deepest_0 : decode cX8_deepest 0 = .ok (.iconst 0, 1) := dk_3 (dk_at dksX8_deepest_0 0 rfl rfl)
theorem dX8_deepest_1 : decode cX8_deepest 1 = .ok (.istore_n 1, 1) := dk_60 (dk_at dksX8_deepest_0 1 rfl rfl)
theorem dX8_deepest_2 : decode cX8_deepest 2 = .ok (.iconst 0, 1) := dk_3 (dk_at dksX8_deepest_0 2 rfl rfl)
theorem dX8_deepest_3 : decode cX8_deepest 3 = .ok (.istore_n 2, 1) := dk_61 (dk_at dksX8_deepest_0 3 rfl rfl)
theorem dX8_deepest_4 : decode cX8_deepest 4 = .ok (.iload_n 2, 1) := dk_28 (dk_at dksX8_deepest_0 4 rfl rfl)
theorem dX8_deepest_5 : decode cX8_deepest 5 = .ok (.bipush 24, 2) := dk_16 24 (dk_at dksX8_deepest_0 5 rfl rfl)
theorem dX8_deepest_7 : decode cX8_deepest 7 = .ok (.if_icmp .ge 34, 3) := dk_162 0 34 (dk_at dksX8_deepest_0 7 rfl rfl)
theorem dX8_deepest_10 : decode cX8_deepest 10 = .ok (.aload_n 0, 1) := dk_42 (dk_at dksX8_deepest_0 10 rfl rfl)
theorem dX8_deepest_11 : decode cX8_deepest 11 = .ok (.iload_n 2, 1) := dk_28 (dk_at dksX8_deepest_0 11 rfl rfl)
theorem dX8_deepest_12 : decode cX8_deepest 12 = .ok (.invokevirtual 113, 3) := dk_182 0 113 (dk_at dksX8_deepest_0 12 rfl rfl)
theorem dX8_deepest_15 : decode cX8_deepest 15 = .ok (.ifCond .eq 20, 3) := dk_153 0 20 (dk_at dksX8_deepest_0 15 rfl rfl)
theorem dX8_deepest_18 : decode cX8_deepest 18 = .ok (.aload_n 0, 1) := dk_42 (dk_at dksX8_deepest_0 18 rfl rfl)
theorem dX8_deepest_19 : decode cX8_deepest 19 = .ok (.iload_n 2, 1) := dk_28 (dk_at dksX8_deepest_0 19 rfl rfl)
theorem dX8_deepest_20 : decode cX8_deepest 20 = .ok (.invokevirtual 165, 3) := dk_182 0 165 (dk_at dksX8_deepest_0 20 rfl rfl)
theorem dX8_deepest_23 : decode cX8_deepest 23 = .ok (.istore_n 3, 1) := dk_62 (dk_at dksX8_deepest_0 23 rfl rfl)
theorem dX8_deepest_24 : decode cX8_deepest 24 = .ok (.iload_n 3, 1) := dk_29 (dk_at dksX8_deepest_1 0 rfl rfl)
theorem dX8_deepest_25 : decode cX8_deepest 25 = .ok (.iload_n 1, 1) := dk_27 (dk_at dksX8_deepest_1 1 rfl rfl)
theorem dX8_deepest_26 : decode cX8_deepest 26 = .ok (.if_icmp .le 7, 3) := dk_164 0 7 (dk_at dksX8_deepest_1 2 rfl rfl)
theorem dX8_deepest_29 : decode cX8_deepest 29 = .ok (.iload_n 3, 1) := dk_29 (dk_at dksX8_deepest_1 5 rfl rfl)
theorem dX8_deepest_30 : decode cX8_deepest 30 = .ok (.goto 4, 3) := dk_167 0 4 (dk_at dksX8_deepest_1 6 rfl rfl)
theorem dX8_deepest_33 : decode cX8_deepest 33 = .ok (.iload_n 1, 1) := dk_27 (dk_at dksX8_deepest_1 9 rfl rfl)
theorem dX8_deepest_34 : decode cX8_deepest 34 = .ok (.istore_n 1, 1) := dk_60 (dk_at dksX8_deepest_1 10 rfl rfl)
theorem dX8_deepest_35 : decode cX8_deepest 35 = .ok (.iinc 2 1, 3) := dk_132 2 1 (dk_at dksX8_deepest_1 11 rfl rfl)
theorem dX8_deepest_38 : decode cX8_deepest 38 = .ok (.goto (-34), 3) := dk_167 255 222 (dk_at dksX8_deepest_1 14 rfl rfl)
theorem dX8_deepest_41 : decode cX8_deepest 41 = .ok (.iload_n 1, 1) := dk_27 (dk_at dksX8_deepest_1 17 rfl rfl)
theorem dX8_deepest_42 : decode cX8_deepest 42 = .ok (.ireturn, 1) := dk_172 (dk_at dksX8_deepest_1 18 rfl rfl)
abbrev cX8_undo : ByteArray := prog_11_method_39_code
def yX8_undo : MethodName := ⟨RX8, "undo", "()I"⟩
def dkwX8_undo_1 : List UInt8 := [180, 0, 62, 17, 0, 171, 42, 180, 0, 171, 104, 182, 0, 193, 42, 180, 0, 171, 172]
abbrev dktX8_undo_1 : List UInt8 := dkwX8_undo_1 ++ []
def dkwX8_undo_0 : List UInt8 := [42, 180, 0, 171, 154, 0, 6, 16, 254, 172, 42, 89, 180, 0, 171, 4, 100, 181, 0, 171, 42, 42]
abbrev dktX8_undo_0 : List UInt8 := dkwX8_undo_0 ++ dktX8_undo_1
theorem dksX8_undo_0 : cX8_undo.data.toList.drop 0 = dktX8_undo_0 := by decide +kernel
theorem dksX8_undo_1 : cX8_undo.data.toList.drop 22 = dktX8_undo_1 := dk_seg dksX8_undo_0 22 rfl rfl
theorem dX8_undo_0 : decode cX8_undo 0 = .ok (.aload_n 0, 1) := dk_42 (dk_at dksX8_undo_0 0 rfl rfl)
theorem dX8_undo_1 : decode cX8_undo 1 = .ok (.getfield 171, 3) := dk_180 0 171 (dk_at dksX8_undo_0 1 rfl rfl)
theorem dX8_undo_4 : decode cX8_undo 4 = .ok (.ifCond .ne 6, 3) := dk_154 0 6 (dk_at dksX8_undo_0 4 rfl rfl)
theorem dX8_undo_7 : decode cX8_undo 7 = .ok (.bipush (-2), 2) := dk_16 254 (dk_at dksX8_undo_0 7 rfl rfl)
theorem dX8_undo_9 : decode cX8_undo 9 = .ok (.ireturn, 1) := dk_172 (dk_at dksX8_undo_0 9 rfl rfl)
theorem dX8_undo_10 : decode cX8_undo 10 = .ok (.aload_n 0, 1) := dk_42 (dk_at dksX8_undo_0 10 rfl rfl)
theorem dX8_undo_11 : decode cX8_undo 11 = .ok (.dup, 1) := dk_89 (dk_at dksX8_undo_0 11 rfl rfl)
theorem dX8_undo_12 : decode cX8_undo 12 = .ok (.getfield 171, 3) := dk_180 0 171 (dk_at dksX8_undo_0 12 rfl rfl)
theorem dX8_undo_15 : decode cX8_undo 15 = .ok (.iconst 1, 1) := dk_4 (dk_at dksX8_undo_0 15 rfl rfl)
theorem dX8_undo_16 : decode cX8_undo 16 = .ok (.isub, 1) := dk_100 (dk_at dksX8_undo_0 16 rfl rfl)
theorem dX8_undo_17 : decode cX8_undo 17 = .ok (.putfield 171, 3) := dk_181 0 171 (dk_at dksX8_undo_0 17 rfl rfl)
theorem dX8_undo_20 : decode cX8_undo 20 = .ok (.aload_n 0, 1) := dk_42 (dk_at dksX8_undo_0 20 rfl rfl)
theorem dX8_undo_21 : decode cX8_undo 21 = .ok (.aload_n 0, 1) := dk_42 (dk_at dksX8_undo_0 21 rfl rfl)
theorem dX8_undo_22 : decode cX8_undo 22 = .ok (.getfield 62, 3) := dk_180 0 62 (dk_at dksX8_undo_1 0 rfl rfl)
theorem dX8_undo_25 : decode cX8_undo 25 = .ok (.sipush 171, 3) := dk_17 0 171 (dk_at dksX8_undo_1 3 rfl rfl)
theorem dX8_undo_28 : decode cX8_undo 28 = .ok (.aload_n 0, 1) := dk_42 (dk_at dksX8_undo_1 6 rfl rfl)
theorem dX8_undo_29 : decode cX8_undo 29 = .ok (.getfield 171, 3) := dk_180 0 171 (dk_at dksX8_undo_1 7 rfl rfl)
theorem dX8_undo_32 : decode cX8_undo 32 = .ok (.imul, 1) := dk_104 (dk_at dksX8_undo_1 10 rfl rfl)
theorem dX8_undo_33 : decode cX8_undo 33 = .ok (.invokevirtual 193, 3) := dk_182 0 193 (dk_at dksX8_undo_1 11 rfl rfl)
theorem dX8_undo_36 : decode cX8_undo 36 = .ok (.aload_n 0, 1) := dk_42 (dk_at dksX8_undo_1 14 rfl rfl)
theorem dX8_undo_37 : decode cX8_undo 37 = .ok (.getfield 171, 3) := dk_180 0 171 (dk_at dksX8_undo_1 15 rfl rfl)
theorem dX8_undo_40 : decode cX8_undo 40 = .ok (.ireturn, 1) := dk_172 (dk_at dksX8_undo_1 18 rfl rfl)
abbrev cX8_takes : ByteArray := prog_11_method_31_code
def yX8_takes : MethodName := ⟨RX8, "takes", "([II)V"⟩
def dkwX8_takes_7 : List UInt8 := [17, 0, 147, 96, 29, 96, 46, 79, 132, 3, 1, 167, 255, 176, 177]
abbrev dktX8_takes_7 : List UInt8 := dkwX8_takes_7 ++ []
def dkwX8_takes_6 : List UInt8 := [96, 46, 79, 42, 180, 0, 35, 29, 43, 28, 16, 123, 96, 29, 96, 46, 79, 42, 180, 0, 38, 29, 43, 28]
abbrev dktX8_takes_6 : List UInt8 := dkwX8_takes_6 ++ dktX8_takes_7
def dkwX8_takes_5 : List UInt8 := [180, 0, 29, 29, 43, 28, 16, 75, 96, 29, 96, 46, 79, 42, 180, 0, 32, 29, 43, 28, 16, 99, 96, 29]
abbrev dktX8_takes_5 : List UInt8 := dkwX8_takes_5 ++ dktX8_takes_6
def dkwX8_takes_4 : List UInt8 := [3, 62, 29, 16, 24, 162, 0, 80, 42, 180, 0, 26, 29, 43, 28, 16, 51, 96, 29, 96, 46, 79, 42]
abbrev dktX8_takes_4 : List UInt8 := dkwX8_takes_4 ++ dktX8_takes_5
def dkwX8_takes_3 : List UInt8 := [29, 96, 46, 79, 42, 180, 0, 19, 29, 43, 28, 16, 39, 96, 29, 96, 46, 79, 132, 3, 1, 167, 255, 192]
abbrev dktX8_takes_3 : List UInt8 := dkwX8_takes_3 ++ dktX8_takes_4
def dkwX8_takes_2 : List UInt8 := [42, 180, 0, 13, 29, 43, 28, 16, 15, 96, 29, 96, 46, 79, 42, 180, 0, 16, 29, 43, 28, 16, 27, 96]
abbrev dktX8_takes_2 : List UInt8 := dkwX8_takes_2 ++ dktX8_takes_3
def dkwX8_takes_1 : List UInt8 := [181, 0, 133, 3, 62, 29, 16, 12, 162, 0, 64, 42, 180, 0, 7, 29, 43, 28, 6, 96, 29, 96, 46, 79]
abbrev dktX8_takes_1 : List UInt8 := dkwX8_takes_1 ++ dktX8_takes_2
def dkwX8_takes_0 : List UInt8 := [42, 43, 28, 46, 181, 0, 90, 42, 43, 28, 4, 96, 46, 181, 0, 22, 42, 43, 28, 5, 96, 46]
abbrev dktX8_takes_0 : List UInt8 := dkwX8_takes_0 ++ dktX8_takes_1
theorem dksX8_takes_0 : cX8_takes.data.toList.drop 0 = dktX8_takes_0 := by decide +kernel
theorem dksX8_takes_1 : cX8_takes.data.toList.drop 22 = dktX8_takes_1 := dk_seg dksX8_takes_0 22 rfl rfl
theorem dksX8_takes_2 : cX8_takes.data.toList.drop 46 = dktX8_takes_2 := dk_seg dksX8_takes_1 24 rfl rfl
theorem dksX8_takes_3 : cX8_takes.data.toList.drop 70 = dktX8_takes_3 := dk_seg dksX8_takes_2 24 rfl rfl
theorem dksX8_takes_4 : cX8_takes.data.toList.drop 94 = dktX8_takes_4 := dk_seg dksX8_takes_3 24 rfl rfl
theorem dksX8_takes_5 : cX8_takes.data.toList.drop 117 = dktX8_takes_5 := dk_seg dksX8_takes_4 23 rfl rfl
theorem dksX8_takes_6 : cX8_takes.data.toList.drop 141 = dktX8_takes_6 := dk_seg dksX8_takes_5 24 rfl rfl
theorem dksX8_takes_7 : cX8_takes.data.toList.drop 165 = dktX8_takes_7 := dk_seg dksX8_takes_6 24 rfl rfl
theorem dX8_takes_0 : decode cX8_takes 0 = .ok (.aload_n 0, 1) := dk_42 (dk_at dksX8_takes_0 0 rfl rfl)
theorem dX8_takes_1 : decode cX8_takes 1 = .ok (.aload_n 1, 1) := dk_43 (dk_at dksX8_takes_0 1 rfl rfl)
theorem dX8_takes_2 : decode cX8_takes 2 = .ok (.iload_n 2, 1) := dk_28 (dk_at dksX8_takes_0 2 rfl rfl)
theorem dX8_takes_3 : decode cX8_takes 3 = .ok (.iaload, 1) := dk_46 (dk_at dksX8_takes_0 3 rfl rfl)
theorem dX8_takes_4 : decode cX8_takes 4 = .ok (.putfield 90, 3) := dk_181 0 90 (dk_at dksX8_takes_0 4 rfl rfl)
theorem dX8_takes_7 : decode cX8_takes 7 = .ok (.aload_n 0, 1) := dk_42 (dk_at dksX8_takes_0 7 rfl rfl)
theorem dX8_takes_8 : decode cX8_takes 8 = .ok (.aload_n 1, 1) := dk_43 (dk_at dksX8_takes_0 8 rfl rfl)
theorem dX8_takes_9 : decode cX8_takes 9 = .ok (.iload_n 2, 1) := dk_28 (dk_at dksX8_takes_0 9 rfl rfl)
theorem dX8_takes_10 : decode cX8_takes 10 = .ok (.iconst 1, 1) := dk_4 (dk_at dksX8_takes_0 10 rfl rfl)
theorem dX8_takes_11 : decode cX8_takes 11 = .ok (.iadd, 1) := dk_96 (dk_at dksX8_takes_0 11 rfl rfl)
theorem dX8_takes_12 : decode cX8_takes 12 = .ok (.iaload, 1) := dk_46 (dk_at dksX8_takes_0 12 rfl rfl)
theorem dX8_takes_13 : decode cX8_takes 13 = .ok (.putfield 22, 3) := dk_181 0 22 (dk_at dksX8_takes_0 13 rfl rfl)
theorem dX8_takes_16 : decode cX8_takes 16 = .ok (.aload_n 0, 1) := dk_42 (dk_at dksX8_takes_0 16 rfl rfl)
theorem dX8_takes_17 : decode cX8_takes 17 = .ok (.aload_n 1, 1) := dk_43 (dk_at dksX8_takes_0 17 rfl rfl)
theorem dX8_takes_18 : decode cX8_takes 18 = .ok (.iload_n 2, 1) := dk_28 (dk_at dksX8_takes_0 18 rfl rfl)
theorem dX8_takes_19 : decode cX8_takes 19 = .ok (.iconst 2, 1) := dk_5 (dk_at dksX8_takes_0 19 rfl rfl)
theorem dX8_takes_20 : decode cX8_takes 20 = .ok (.iadd, 1) := dk_96 (dk_at dksX8_takes_0 20 rfl rfl)
theorem dX8_takes_21 : decode cX8_takes 21 = .ok (.iaload, 1) := dk_46 (dk_at dksX8_takes_0 21 rfl rfl)
theorem dX8_takes_22 : decode cX8_takes 22 = .ok (.putfield 133, 3) := dk_181 0 133 (dk_at dksX8_takes_1 0 rfl rfl)
theorem dX8_takes_25 : decode cX8_takes 25 = .ok (.iconst 0, 1) := dk_3 (dk_at dksX8_takes_1 3 rfl rfl)
theorem dX8_takes_26 : decode cX8_takes 26 = .ok (.istore_n 3, 1) := dk_62 (dk_at dksX8_takes_1 4 rfl rfl)
theorem dX8_takes_27 : decode cX8_takes 27 = .ok (.iload_n 3, 1) := dk_29 (dk_at dksX8_takes_1 5 rfl rfl)
theorem dX8_takes_28 : decode cX8_takes 28 = .ok (.bipush 12, 2) := dk_16 12 (dk_at dksX8_takes_1 6 rfl rfl)
theorem dX8_takes_30 : decode cX8_takes 30 = .ok (.if_icmp .ge 64, 3) := dk_162 0 64 (dk_at dksX8_takes_1 8 rfl rfl)
theorem dX8_takes_33 : decode cX8_takes 33 = .ok (.aload_n 0, 1) := dk_42 (dk_at dksX8_takes_1 11 rfl rfl)
theorem dX8_takes_34 : decode cX8_takes 34 = .ok (.getfield 7, 3) := dk_180 0 7 (dk_at dksX8_takes_1 12 rfl rfl)
theorem dX8_takes_37 : decode cX8_takes 37 = .ok (.iload_n 3, 1) := dk_29 (dk_at dksX8_takes_1 15 rfl rfl)
theorem dX8_takes_38 : decode cX8_takes 38 = .ok (.aload_n 1, 1) := dk_43 (dk_at dksX8_takes_1 16 rfl rfl)
theorem dX8_takes_39 : decode cX8_takes 39 = .ok (.iload_n 2, 1) := dk_28 (dk_at dksX8_takes_1 17 rfl rfl)
theorem dX8_takes_40 : decode cX8_takes 40 = .ok (.iconst 3, 1) := dk_6 (dk_at dksX8_takes_1 18 rfl rfl)
theorem dX8_takes_41 : decode cX8_takes 41 = .ok (.iadd, 1) := dk_96 (dk_at dksX8_takes_1 19 rfl rfl)
theorem dX8_takes_42 : decode cX8_takes 42 = .ok (.iload_n 3, 1) := dk_29 (dk_at dksX8_takes_1 20 rfl rfl)
theorem dX8_takes_43 : decode cX8_takes 43 = .ok (.iadd, 1) := dk_96 (dk_at dksX8_takes_1 21 rfl rfl)
theorem dX8_takes_44 : decode cX8_takes 44 = .ok (.iaload, 1) := dk_46 (dk_at dksX8_takes_1 22 rfl rfl)
theorem dX8_takes_45 : decode cX8_takes 45 = .ok (.iastore, 1) := dk_79 (dk_at dksX8_takes_1 23 rfl rfl)
theorem dX8_takes_46 : decode cX8_takes 46 = .ok (.aload_n 0, 1) := dk_42 (dk_at dksX8_takes_2 0 rfl rfl)
theorem dX8_takes_47 : decode cX8_takes 47 = .ok (.getfield 13, 3) := dk_180 0 13 (dk_at dksX8_takes_2 1 rfl rfl)
theorem dX8_takes_50 : decode cX8_takes 50 = .ok (.iload_n 3, 1) := dk_29 (dk_at dksX8_takes_2 4 rfl rfl)
theorem dX8_takes_51 : decode cX8_takes 51 = .ok (.aload_n 1, 1) := dk_43 (dk_at dksX8_takes_2 5 rfl rfl)
theorem dX8_takes_52 : decode cX8_takes 52 = .ok (.iload_n 2, 1) := dk_28 (dk_at dksX8_takes_2 6 rfl rfl)
theorem dX8_takes_53 : decode cX8_takes 53 = .ok (.bipush 15, 2) := dk_16 15 (dk_at dksX8_takes_2 7 rfl rfl)
theorem dX8_takes_55 : decode cX8_takes 55 = .ok (.iadd, 1) := dk_96 (dk_at dksX8_takes_2 9 rfl rfl)
theorem dX8_takes_56 : decode cX8_takes 56 = .ok (.iload_n 3, 1) := dk_29 (dk_at dksX8_takes_2 10 rfl rfl)
theorem dX8_takes_57 : decode cX8_takes 57 = .ok (.iadd, 1) := dk_96 (dk_at dksX8_takes_2 11 rfl rfl)
theorem dX8_takes_58 : decode cX8_takes 58 = .ok (.iaload, 1) := dk_46 (dk_at dksX8_takes_2 12 rfl rfl)
theorem dX8_takes_59 : decode cX8_takes 59 = .ok (.iastore, 1) := dk_79 (dk_at dksX8_takes_2 13 rfl rfl)
theorem dX8_takes_60 : decode cX8_takes 60 = .ok (.aload_n 0, 1) := dk_42 (dk_at dksX8_takes_2 14 rfl rfl)
theorem dX8_takes_61 : decode cX8_takes 61 = .ok (.getfield 16, 3) := dk_180 0 16 (dk_at dksX8_takes_2 15 rfl rfl)
theorem dX8_takes_64 : decode cX8_takes 64 = .ok (.iload_n 3, 1) := dk_29 (dk_at dksX8_takes_2 18 rfl rfl)
theorem dX8_takes_65 : decode cX8_takes 65 = .ok (.aload_n 1, 1) := dk_43 (dk_at dksX8_takes_2 19 rfl rfl)
theorem dX8_takes_66 : decode cX8_takes 66 = .ok (.iload_n 2, 1) := dk_28 (dk_at dksX8_takes_2 20 rfl rfl)
theorem dX8_takes_67 : decode cX8_takes 67 = .ok (.bipush 27, 2) := dk_16 27 (dk_at dksX8_takes_2 21 rfl rfl)
theorem dX8_takes_69 : decode cX8_takes 69 = .ok (.iadd, 1) := dk_96 (dk_at dksX8_takes_2 23 rfl rfl)
theorem dX8_takes_70 : decode cX8_takes 70 = .ok (.iload_n 3, 1) := dk_29 (dk_at dksX8_takes_3 0 rfl rfl)
theorem dX8_takes_71 : decode cX8_takes 71 = .ok (.iadd, 1) := dk_96 (dk_at dksX8_takes_3 1 rfl rfl)
theorem dX8_takes_72 : decode cX8_takes 72 = .ok (.iaload, 1) := dk_46 (dk_at dksX8_takes_3 2 rfl rfl)
theorem dX8_takes_73 : decode cX8_takes 73 = .ok (.iastore, 1) := dk_79 (dk_at dksX8_takes_3 3 rfl rfl)
theorem dX8_takes_74 : decode cX8_takes 74 = .ok (.aload_n 0, 1) := dk_42 (dk_at dksX8_takes_3 4 rfl rfl)
theorem dX8_takes_75 : decode cX8_takes 75 = .ok (.getfield 19, 3) := dk_180 0 19 (dk_at dksX8_takes_3 5 rfl rfl)
theorem dX8_takes_78 : decode cX8_takes 78 = .ok (.iload_n 3, 1) := dk_29 (dk_at dksX8_takes_3 8 rfl rfl)
theorem dX8_takes_79 : decode cX8_takes 79 = .ok (.aload_n 1, 1) := dk_43 (dk_at dksX8_takes_3 9 rfl rfl)
theorem dX8_takes_80 : decode cX8_takes 80 = .ok (.iload_n 2, 1) := dk_28 (dk_at dksX8_takes_3 10 rfl rfl)
theorem dX8_takes_81 : decode cX8_takes 81 = .ok (.bipush 39, 2) := dk_16 39 (dk_at dksX8_takes_3 11 rfl rfl)
theorem dX8_takes_83 : decode cX8_takes 83 = .ok (.iadd, 1) := dk_96 (dk_at dksX8_takes_3 13 rfl rfl)
theorem dX8_takes_84 : decode cX8_takes 84 = .ok (.iload_n 3, 1) := dk_29 (dk_at dksX8_takes_3 14 rfl rfl)
theorem dX8_takes_85 : decode cX8_takes 85 = .ok (.iadd, 1) := dk_96 (dk_at dksX8_takes_3 15 rfl rfl)
theorem dX8_takes_86 : decode cX8_takes 86 = .ok (.iaload, 1) := dk_46 (dk_at dksX8_takes_3 16 rfl rfl)
theorem dX8_takes_87 : decode cX8_takes 87 = .ok (.iastore, 1) := dk_79 (dk_at dksX8_takes_3 17 rfl rfl)
theorem dX8_takes_88 : decode cX8_takes 88 = .ok (.iinc 3 1, 3) := dk_132 3 1 (dk_at dksX8_takes_3 18 rfl rfl)
theorem dX8_takes_91 : decode cX8_takes 91 = .ok (.goto (-64), 3) := dk_167 255 192 (dk_at dksX8_takes_3 21 rfl rfl)
theorem dX8_takes_94 : decode cX8_takes 94 = .ok (.iconst 0, 1) := dk_3 (dk_at dksX8_takes_4 0 rfl rfl)
theorem dX8_takes_95 : decode cX8_takes 95 = .ok (.istore_n 3, 1) := dk_62 (dk_at dksX8_takes_4 1 rfl rfl)
theorem dX8_takes_96 : decode cX8_takes 96 = .ok (.iload_n 3, 1) := dk_29 (dk_at dksX8_takes_4 2 rfl rfl)
theorem dX8_takes_97 : decode cX8_takes 97 = .ok (.bipush 24, 2) := dk_16 24 (dk_at dksX8_takes_4 3 rfl rfl)
theorem dX8_takes_99 : decode cX8_takes 99 = .ok (.if_icmp .ge 80, 3) := dk_162 0 80 (dk_at dksX8_takes_4 5 rfl rfl)
theorem dX8_takes_102 : decode cX8_takes 102 = .ok (.aload_n 0, 1) := dk_42 (dk_at dksX8_takes_4 8 rfl rfl)
theorem dX8_takes_103 : decode cX8_takes 103 = .ok (.getfield 26, 3) := dk_180 0 26 (dk_at dksX8_takes_4 9 rfl rfl)
theorem dX8_takes_106 : decode cX8_takes 106 = .ok (.iload_n 3, 1) := dk_29 (dk_at dksX8_takes_4 12 rfl rfl)
theorem dX8_takes_107 : decode cX8_takes 107 = .ok (.aload_n 1, 1) := dk_43 (dk_at dksX8_takes_4 13 rfl rfl)
theorem dX8_takes_108 : decode cX8_takes 108 = .ok (.iload_n 2, 1) := dk_28 (dk_at dksX8_takes_4 14 rfl rfl)
theorem dX8_takes_109 : decode cX8_takes 109 = .ok (.bipush 51, 2) := dk_16 51 (dk_at dksX8_takes_4 15 rfl rfl)
theorem dX8_takes_111 : decode cX8_takes 111 = .ok (.iadd, 1) := dk_96 (dk_at dksX8_takes_4 17 rfl rfl)
theorem dX8_takes_112 : decode cX8_takes 112 = .ok (.iload_n 3, 1) := dk_29 (dk_at dksX8_takes_4 18 rfl rfl)
theorem dX8_takes_113 : decode cX8_takes 113 = .ok (.iadd, 1) := dk_96 (dk_at dksX8_takes_4 19 rfl rfl)
theorem dX8_takes_114 : decode cX8_takes 114 = .ok (.iaload, 1) := dk_46 (dk_at dksX8_takes_4 20 rfl rfl)
theorem dX8_takes_115 : decode cX8_takes 115 = .ok (.iastore, 1) := dk_79 (dk_at dksX8_takes_4 21 rfl rfl)
theorem dX8_takes_116 : decode cX8_takes 116 = .ok (.aload_n 0, 1) := dk_42 (dk_at dksX8_takes_4 22 rfl rfl)
theorem dX8_takes_117 : decode cX8_takes 117 = .ok (.getfield 29, 3) := dk_180 0 29 (dk_at dksX8_takes_5 0 rfl rfl)
theorem dX8_takes_120 : decode cX8_takes 120 = .ok (.iload_n 3, 1) := dk_29 (dk_at dksX8_takes_5 3 rfl rfl)
theorem dX8_takes_121 : decode cX8_takes 121 = .ok (.aload_n 1, 1) := dk_43 (dk_at dksX8_takes_5 4 rfl rfl)
theorem dX8_takes_122 : decode cX8_takes 122 = .ok (.iload_n 2, 1) := dk_28 (dk_at dksX8_takes_5 5 rfl rfl)
theorem dX8_takes_123 : decode cX8_takes 123 = .ok (.bipush 75, 2) := dk_16 75 (dk_at dksX8_takes_5 6 rfl rfl)
theorem dX8_takes_125 : decode cX8_takes 125 = .ok (.iadd, 1) := dk_96 (dk_at dksX8_takes_5 8 rfl rfl)
theorem dX8_takes_126 : decode cX8_takes 126 = .ok (.iload_n 3, 1) := dk_29 (dk_at dksX8_takes_5 9 rfl rfl)
theorem dX8_takes_127 : decode cX8_takes 127 = .ok (.iadd, 1) := dk_96 (dk_at dksX8_takes_5 10 rfl rfl)
theorem dX8_takes_128 : decode cX8_takes 128 = .ok (.iaload, 1) := dk_46 (dk_at dksX8_takes_5 11 rfl rfl)
theorem dX8_takes_129 : decode cX8_takes 129 = .ok (.iastore, 1) := dk_79 (dk_at dksX8_takes_5 12 rfl rfl)
theorem dX8_takes_130 : decode cX8_takes 130 = .ok (.aload_n 0, 1) := dk_42 (dk_at dksX8_takes_5 13 rfl rfl)
theorem dX8_takes_131 : decode cX8_takes 131 = .ok (.getfield 32, 3) := dk_180 0 32 (dk_at dksX8_takes_5 14 rfl rfl)
theorem dX8_takes_134 : decode cX8_takes 134 = .ok (.iload_n 3, 1) := dk_29 (dk_at dksX8_takes_5 17 rfl rfl)
theorem dX8_takes_135 : decode cX8_takes 135 = .ok (.aload_n 1, 1) := dk_43 (dk_at dksX8_takes_5 18 rfl rfl)
theorem dX8_takes_136 : decode cX8_takes 136 = .ok (.iload_n 2, 1) := dk_28 (dk_at dksX8_takes_5 19 rfl rfl)
theorem dX8_takes_137 : decode cX8_takes 137 = .ok (.bipush 99, 2) := dk_16 99 (dk_at dksX8_takes_5 20 rfl rfl)
theorem dX8_takes_139 : decode cX8_takes 139 = .ok (.iadd, 1) := dk_96 (dk_at dksX8_takes_5 22 rfl rfl)
theorem dX8_takes_140 : decode cX8_takes 140 = .ok (.iload_n 3, 1) := dk_29 (dk_at dksX8_takes_5 23 rfl rfl)
theorem dX8_takes_141 : decode cX8_takes 141 = .ok (.iadd, 1) := dk_96 (dk_at dksX8_takes_6 0 rfl rfl)
theorem dX8_takes_142 : decode cX8_takes 142 = .ok (.iaload, 1) := dk_46 (dk_at dksX8_takes_6 1 rfl rfl)
theorem dX8_takes_143 : decode cX8_takes 143 = .ok (.iastore, 1) := dk_79 (dk_at dksX8_takes_6 2 rfl rfl)
theorem dX8_takes_144 : decode cX8_takes 144 = .ok (.aload_n 0, 1) := dk_42 (dk_at dksX8_takes_6 3 rfl rfl)
theorem dX8_takes_145 : decode cX8_takes 145 = .ok (.getfield 35, 3) := dk_180 0 35 (dk_at dksX8_takes_6 4 rfl rfl)
theorem dX8_takes_148 : decode cX8_takes 148 = .ok (.iload_n 3, 1) := dk_29 (dk_at dksX8_takes_6 7 rfl rfl)
theorem dX8_takes_149 : decode cX8_takes 149 = .ok (.aload_n 1, 1) := dk_43 (dk_at dksX8_takes_6 8 rfl rfl)
theorem dX8_takes_150 : decode cX8_takes 150 = .ok (.iload_n 2, 1) := dk_28 (dk_at dksX8_takes_6 9 rfl rfl)
theorem dX8_takes_151 : decode cX8_takes 151 = .ok (.bipush 123, 2) := dk_16 123 (dk_at dksX8_takes_6 10 rfl rfl)
theorem dX8_takes_153 : decode cX8_takes 153 = .ok (.iadd, 1) := dk_96 (dk_at dksX8_takes_6 12 rfl rfl)
theorem dX8_takes_154 : decode cX8_takes 154 = .ok (.iload_n 3, 1) := dk_29 (dk_at dksX8_takes_6 13 rfl rfl)
theorem dX8_takes_155 : decode cX8_takes 155 = .ok (.iadd, 1) := dk_96 (dk_at dksX8_takes_6 14 rfl rfl)
theorem dX8_takes_156 : decode cX8_takes 156 = .ok (.iaload, 1) := dk_46 (dk_at dksX8_takes_6 15 rfl rfl)
theorem dX8_takes_157 : decode cX8_takes 157 = .ok (.iastore, 1) := dk_79 (dk_at dksX8_takes_6 16 rfl rfl)
theorem dX8_takes_158 : decode cX8_takes 158 = .ok (.aload_n 0, 1) := dk_42 (dk_at dksX8_takes_6 17 rfl rfl)
theorem dX8_takes_159 : decode cX8_takes 159 = .ok (.getfield 38, 3) := dk_180 0 38 (dk_at dksX8_takes_6 18 rfl rfl)
theorem dX8_takes_162 : decode cX8_takes 162 = .ok (.iload_n 3, 1) := dk_29 (dk_at dksX8_takes_6 21 rfl rfl)
theorem dX8_takes_163 : decode cX8_takes 163 = .ok (.aload_n 1, 1) := dk_43 (dk_at dksX8_takes_6 22 rfl rfl)
theorem dX8_takes_164 : decode cX8_takes 164 = .ok (.iload_n 2, 1) := dk_28 (dk_at dksX8_takes_6 23 rfl rfl)
theorem dX8_takes_165 : decode cX8_takes 165 = .ok (.sipush 147, 3) := dk_17 0 147 (dk_at dksX8_takes_7 0 rfl rfl)
theorem dX8_takes_168 : decode cX8_takes 168 = .ok (.iadd, 1) := dk_96 (dk_at dksX8_takes_7 3 rfl rfl)
theorem dX8_takes_169 : decode cX8_takes 169 = .ok (.iload_n 3, 1) := dk_29 (dk_at dksX8_takes_7 4 rfl rfl)
theorem dX8_takes_170 : decode cX8_takes 170 = .ok (.iadd, 1) := dk_96 (dk_at dksX8_takes_7 5 rfl rfl)
theorem dX8_takes_171 : decode cX8_takes 171 = .ok (.iaload, 1) := dk_46 (dk_at dksX8_takes_7 6 rfl rfl)
theorem dX8_takes_172 : decode cX8_takes 172 = .ok (.iastore, 1) := dk_79 (dk_at dksX8_takes_7 7 rfl rfl)
theorem dX8_takes_173 : decode cX8_takes 173 = .ok (.iinc 3 1, 3) := dk_132 3 1 (dk_at dksX8_takes_7 8 rfl rfl)
theorem dX8_takes_176 : decode cX8_takes 176 = .ok (.goto (-80), 3) := dk_167 255 176 (dk_at dksX8_takes_7 11 rfl rfl)
theorem dX8_takes_179 : decode cX8_takes 179 = .ok (.return_, 1) := dk_177 (dk_at dksX8_takes_7 14 rfl rfl)
abbrev cX8_keep : ByteArray := prog_11_method_40_code
def yX8_keep : MethodName := ⟨RX8, "keep", "()I"⟩
def dkwX8_keep_1 : List UInt8 := [182, 0, 174, 42, 89, 180, 0, 196, 4, 96, 181, 0, 196, 42, 180, 0, 196, 172]
abbrev dktX8_keep_1 : List UInt8 := dkwX8_keep_1 ++ []
def dkwX8_keep_0 : List UInt8 := [42, 180, 0, 196, 5, 160, 0, 6, 16, 253, 172, 42, 42, 180, 0, 65, 17, 0, 171, 42, 180, 0, 196, 104]
abbrev dktX8_keep_0 : List UInt8 := dkwX8_keep_0 ++ dktX8_keep_1
theorem dksX8_keep_0 : cX8_keep.data.toList.drop 0 = dktX8_keep_0 := by decide +kernel
theorem dksX8_keep_1 : cX8_keep.data.toList.drop 24 = dktX8_keep_1 := dk_seg dksX8_keep_0 24 rfl rfl
theorem dX8_keep_0 : decode cX8_keep 0 = .ok (.aload_n 0, 1) := dk_42 (dk_at dksX8_keep_0 0 rfl rfl)
theorem dX8_keep_1 : decode cX8_keep 1 = .ok (.getfield 196, 3) := dk_180 0 196 (dk_at dksX8_keep_0 1 rfl rfl)
theorem dX8_keep_4 : decode cX8_keep 4 = .ok (.iconst 2, 1) := dk_5 (dk_at dksX8_keep_0 4 rfl rfl)
theorem dX8_keep_5 : decode cX8_keep 5 = .ok (.if_icmp .ne 6, 3) := dk_160 0 6 (dk_at dksX8_keep_0 5 rfl rfl)
theorem dX8_keep_8 : decode cX8_keep 8 = .ok (.bipush (-3), 2) := dk_16 253 (dk_at dksX8_keep_0 8 rfl rfl)
theorem dX8_keep_10 : decode cX8_keep 10 = .ok (.ireturn, 1) := dk_172 (dk_at dksX8_keep_0 10 rfl rfl)
theorem dX8_keep_11 : decode cX8_keep 11 = .ok (.aload_n 0, 1) := dk_42 (dk_at dksX8_keep_0 11 rfl rfl)
theorem dX8_keep_12 : decode cX8_keep 12 = .ok (.aload_n 0, 1) := dk_42 (dk_at dksX8_keep_0 12 rfl rfl)
theorem dX8_keep_13 : decode cX8_keep 13 = .ok (.getfield 65, 3) := dk_180 0 65 (dk_at dksX8_keep_0 13 rfl rfl)
theorem dX8_keep_16 : decode cX8_keep 16 = .ok (.sipush 171, 3) := dk_17 0 171 (dk_at dksX8_keep_0 16 rfl rfl)
theorem dX8_keep_19 : decode cX8_keep 19 = .ok (.aload_n 0, 1) := dk_42 (dk_at dksX8_keep_0 19 rfl rfl)
theorem dX8_keep_20 : decode cX8_keep 20 = .ok (.getfield 196, 3) := dk_180 0 196 (dk_at dksX8_keep_0 20 rfl rfl)
theorem dX8_keep_23 : decode cX8_keep 23 = .ok (.imul, 1) := dk_104 (dk_at dksX8_keep_0 23 rfl rfl)
theorem dX8_keep_24 : decode cX8_keep 24 = .ok (.invokevirtual 174, 3) := dk_182 0 174 (dk_at dksX8_keep_1 0 rfl rfl)
theorem dX8_keep_27 : decode cX8_keep 27 = .ok (.aload_n 0, 1) := dk_42 (dk_at dksX8_keep_1 3 rfl rfl)
theorem dX8_keep_28 : decode cX8_keep 28 = .ok (.dup, 1) := dk_89 (dk_at dksX8_keep_1 4 rfl rfl)
theorem dX8_keep_29 : decode cX8_keep 29 = .ok (.getfield 196, 3) := dk_180 0 196 (dk_at dksX8_keep_1 5 rfl rfl)
theorem dX8_keep_32 : decode cX8_keep 32 = .ok (.iconst 1, 1) := dk_4 (dk_at dksX8_keep_1 8 rfl rfl)
theorem dX8_keep_33 : decode cX8_keep 33 = .ok (.iadd, 1) := dk_96 (dk_at dksX8_keep_1 9 rfl rfl)
theorem dX8_keep_34 : decode cX8_keep 34 = .ok (.putfield 196, 3) := dk_181 0 196 (dk_at dksX8_keep_1 10 rfl rfl)
theorem dX8_keep_37 : decode cX8_keep 37 = .ok (.aload_n 0, 1) := dk_42 (dk_at dksX8_keep_1 13 rfl rfl)
theorem dX8_keep_38 : decode cX8_keep 38 = .ok (.getfield 196, 3) := dk_180 0 196 (dk_at dksX8_keep_1 14 rfl rfl)
theorem dX8_keep_41 : decode cX8_keep 41 = .ok (.ireturn, 1) := dk_172 (dk_at dksX8_keep_1 17 rfl rfl)
abbrev cX8_back : ByteArray := prog_11_method_41_code
def yX8_back : MethodName := ⟨RX8, "back", "()I"⟩
def dkwX8_back_1 : List UInt8 := [180, 0, 65, 17, 0, 171, 42, 180, 0, 196, 104, 182, 0, 193, 42, 3, 181, 0, 171, 42, 180, 0, 196, 172]
abbrev dktX8_back_1 : List UInt8 := dkwX8_back_1 ++ []
def dkwX8_back_0 : List UInt8 := [42, 180, 0, 196, 154, 0, 6, 16, 254, 172, 42, 89, 180, 0, 196, 4, 100, 181, 0, 196, 42, 42]
abbrev dktX8_back_0 : List UInt8 := dkwX8_back_0 ++ dktX8_back_1
theorem dksX8_back_0 : cX8_back.data.toList.drop 0 = dktX8_back_0 := by decide +kernel
theorem dksX8_back_1 : cX8_back.data.toList.drop 22 = dktX8_back_1 := dk_seg dksX8_back_0 22 rfl rfl
theorem dX8_back_0 : decode cX8_back 0 = .ok (.aload_n 0, 1) := dk_42 (dk_at dksX8_back_0 0 rfl rfl)
theorem dX8_back_1 : decode cX8_back 1 = .ok (.getfield 196, 3) := dk_180 0 196 (dk_at dksX8_back_0 1 rfl rfl)
theorem dX8_back_4 : decode cX8_back 4 = .ok (.ifCond .ne 6, 3) := dk_154 0 6 (dk_at dksX8_back_0 4 rfl rfl)
theorem dX8_back_7 : decode cX8_back 7 = .ok (.bipush (-2), 2) := dk_16 254 (dk_at dksX8_back_0 7 rfl rfl)
theorem dX8_back_9 : decode cX8_back 9 = .ok (.ireturn, 1) := dk_172 (dk_at dksX8_back_0 9 rfl rfl)
theorem dX8_back_10 : decode cX8_back 10 = .ok (.aload_n 0, 1) := dk_42 (dk_at dksX8_back_0 10 rfl rfl)
theorem dX8_back_11 : decode cX8_back 11 = .ok (.dup, 1) := dk_89 (dk_at dksX8_back_0 11 rfl rfl)
theorem dX8_back_12 : decode cX8_back 12 = .ok (.getfield 196, 3) := dk_180 0 196 (dk_at dksX8_back_0 12 rfl rfl)
theorem dX8_back_15 : decode cX8_back 15 = .ok (.iconst 1, 1) := dk_4 (dk_at dksX8_back_0 15 rfl rfl)
theorem dX8_back_16 : decode cX8_back 16 = .ok (.isub, 1) := dk_100 (dk_at dksX8_back_0 16 rfl rfl)
theorem dX8_back_17 : decode cX8_back 17 = .ok (.putfield 196, 3) := dk_181 0 196 (dk_at dksX8_back_0 17 rfl rfl)
theorem dX8_back_20 : decode cX8_back 20 = .ok (.aload_n 0, 1) := dk_42 (dk_at dksX8_back_0 20 rfl rfl)
theorem dX8_back_21 : decode cX8_back 21 = .ok (.aload_n 0, 1) := dk_42 (dk_at dksX8_back_0 21 rfl rfl)
theorem dX8_back_22 : decode cX8_back 22 = .ok (.getfield 65, 3) := dk_180 0 65 (dk_at dksX8_back_1 0 rfl rfl)
theorem dX8_back_25 : decode cX8_back 25 = .ok (.sipush 171, 3) := dk_17 0 171 (dk_at dksX8_back_1 3 rfl rfl)
theorem dX8_back_28 : decode cX8_back 28 = .ok (.aload_n 0, 1) := dk_42 (dk_at dksX8_back_1 6 rfl rfl)
theorem dX8_back_29 : decode cX8_back 29 = .ok (.getfield 196, 3) := dk_180 0 196 (dk_at dksX8_back_1 7 rfl rfl)
theorem dX8_back_32 : decode cX8_back 32 = .ok (.imul, 1) := dk_104 (dk_at dksX8_back_1 10 rfl rfl)
theorem dX8_back_33 : decode cX8_back 33 = .ok (.invokevirtual 193, 3) := dk_182 0 193 (dk_at dksX8_back_1 11 rfl rfl)
theorem dX8_back_36 : decode cX8_back 36 = .ok (.aload_n 0, 1) := dk_42 (dk_at dksX8_back_1 14 rfl rfl)
theorem dX8_back_37 : decode cX8_back 37 = .ok (.iconst 0, 1) := dk_3 (dk_at dksX8_back_1 15 rfl rfl)
theorem dX8_back_38 : decode cX8_back 38 = .ok (.putfield 171, 3) := dk_181 0 171 (dk_at dksX8_back_1 16 rfl rfl)
theorem dX8_back_41 : decode cX8_back 41 = .ok (.aload_n 0, 1) := dk_42 (dk_at dksX8_back_1 19 rfl rfl)
theorem dX8_back_42 : decode cX8_back 42 = .ok (.getfield 196, 3) := dk_180 0 196 (dk_at dksX8_back_1 20 rfl rfl)
theorem dX8_back_45 : decode cX8_back 45 = .ok (.ireturn, 1) := dk_172 (dk_at dksX8_back_1 23 rfl rfl)
abbrev cX8_found : ByteArray := prog_11_method_44_code
def yX8_found : MethodName := ⟨RX8, "found", "(IIII)I"⟩
def dkwX8_found_3 : List UInt8 := [180, 0, 71, 21, 4, 46, 167, 0, 5, 16, 252, 172]
abbrev dktX8_found_3 : List UInt8 := dkwX8_found_3 ++ []
def dkwX8_found_2 : List UInt8 := [160, 0, 10, 42, 180, 0, 199, 167, 0, 5, 21, 5, 172, 21, 4, 42, 180, 0, 199, 162, 0, 13, 42]
abbrev dktX8_found_2 : List UInt8 := dkwX8_found_2 ++ dktX8_found_3
def dkwX8_found_1 : List UInt8 := [162, 0, 5, 2, 172, 42, 27, 28, 29, 182, 0, 205, 54, 5, 21, 4, 156, 0, 19, 21, 4, 2]
abbrev dktX8_found_1 : List UInt8 := dkwX8_found_1 ++ dktX8_found_2
def dkwX8_found_0 : List UInt8 := [27, 28, 184, 0, 202, 153, 0, 21, 29, 3, 17, 0, 200, 184, 0, 93, 153, 0, 10, 21, 4, 16, 254]
abbrev dktX8_found_0 : List UInt8 := dkwX8_found_0 ++ dktX8_found_1
theorem dksX8_found_0 : cX8_found.data.toList.drop 0 = dktX8_found_0 := by decide +kernel
theorem dksX8_found_1 : cX8_found.data.toList.drop 23 = dktX8_found_1 := dk_seg dksX8_found_0 23 rfl rfl
theorem dksX8_found_2 : cX8_found.data.toList.drop 45 = dktX8_found_2 := dk_seg dksX8_found_1 22 rfl rfl
theorem dksX8_found_3 : cX8_found.data.toList.drop 68 = dktX8_found_3 := dk_seg dksX8_found_2 23 rfl rfl
theorem dX8_found_0 : decode cX8_found 0 = .ok (.iload_n 1, 1) := dk_27 (dk_at dksX8_found_0 0 rfl rfl)
theorem dX8_found_1 : decode cX8_found 1 = .ok (.iload_n 2, 1) := dk_28 (dk_at dksX8_found_0 1 rfl rfl)
theorem dX8_found_2 : decode cX8_found 2 = .ok (.invokestatic 202, 3) := dk_184 0 202 (dk_at dksX8_found_0 2 rfl rfl)
theorem dX8_found_5 : decode cX8_found 5 = .ok (.ifCond .eq 21, 3) := dk_153 0 21 (dk_at dksX8_found_0 5 rfl rfl)
theorem dX8_found_8 : decode cX8_found 8 = .ok (.iload_n 3, 1) := dk_29 (dk_at dksX8_found_0 8 rfl rfl)
theorem dX8_found_9 : decode cX8_found 9 = .ok (.iconst 0, 1) := dk_3 (dk_at dksX8_found_0 9 rfl rfl)
theorem dX8_found_10 : decode cX8_found 10 = .ok (.sipush 200, 3) := dk_17 0 200 (dk_at dksX8_found_0 10 rfl rfl)
theorem dX8_found_13 : decode cX8_found 13 = .ok (.invokestatic 93, 3) := dk_184 0 93 (dk_at dksX8_found_0 13 rfl rfl)
theorem dX8_found_16 : decode cX8_found 16 = .ok (.ifCond .eq 10, 3) := dk_153 0 10 (dk_at dksX8_found_0 16 rfl rfl)
theorem dX8_found_19 : decode cX8_found 19 = .ok (.iload 4, 2) := dk_21 4 (dk_at dksX8_found_0 19 rfl rfl)
theorem dX8_found_21 : decode cX8_found 21 = .ok (.bipush (-2), 2) := dk_16 254 (dk_at dksX8_found_0 21 rfl rfl)
theorem dX8_found_23 : decode cX8_found 23 = .ok (.if_icmp .ge 5, 3) := dk_162 0 5 (dk_at dksX8_found_1 0 rfl rfl)
theorem dX8_found_26 : decode cX8_found 26 = .ok (.iconst (-1), 1) := dk_2 (dk_at dksX8_found_1 3 rfl rfl)
theorem dX8_found_27 : decode cX8_found 27 = .ok (.ireturn, 1) := dk_172 (dk_at dksX8_found_1 4 rfl rfl)
theorem dX8_found_28 : decode cX8_found 28 = .ok (.aload_n 0, 1) := dk_42 (dk_at dksX8_found_1 5 rfl rfl)
theorem dX8_found_29 : decode cX8_found 29 = .ok (.iload_n 1, 1) := dk_27 (dk_at dksX8_found_1 6 rfl rfl)
theorem dX8_found_30 : decode cX8_found 30 = .ok (.iload_n 2, 1) := dk_28 (dk_at dksX8_found_1 7 rfl rfl)
theorem dX8_found_31 : decode cX8_found 31 = .ok (.iload_n 3, 1) := dk_29 (dk_at dksX8_found_1 8 rfl rfl)
theorem dX8_found_32 : decode cX8_found 32 = .ok (.invokevirtual 205, 3) := dk_182 0 205 (dk_at dksX8_found_1 9 rfl rfl)
theorem dX8_found_35 : decode cX8_found 35 = .ok (.istore 5, 2) := dk_54 5 (dk_at dksX8_found_1 12 rfl rfl)
theorem dX8_found_37 : decode cX8_found 37 = .ok (.iload 4, 2) := dk_21 4 (dk_at dksX8_found_1 14 rfl rfl)
theorem dX8_found_39 : decode cX8_found 39 = .ok (.ifCond .ge 19, 3) := dk_156 0 19 (dk_at dksX8_found_1 16 rfl rfl)
theorem dX8_found_42 : decode cX8_found 42 = .ok (.iload 4, 2) := dk_21 4 (dk_at dksX8_found_1 19 rfl rfl)
theorem dX8_found_44 : decode cX8_found 44 = .ok (.iconst (-1), 1) := dk_2 (dk_at dksX8_found_1 21 rfl rfl)
theorem dX8_found_45 : decode cX8_found 45 = .ok (.if_icmp .ne 10, 3) := dk_160 0 10 (dk_at dksX8_found_2 0 rfl rfl)
theorem dX8_found_48 : decode cX8_found 48 = .ok (.aload_n 0, 1) := dk_42 (dk_at dksX8_found_2 3 rfl rfl)
theorem dX8_found_49 : decode cX8_found 49 = .ok (.getfield 199, 3) := dk_180 0 199 (dk_at dksX8_found_2 4 rfl rfl)
theorem dX8_found_52 : decode cX8_found 52 = .ok (.goto 5, 3) := dk_167 0 5 (dk_at dksX8_found_2 7 rfl rfl)
theorem dX8_found_55 : decode cX8_found 55 = .ok (.iload 5, 2) := dk_21 5 (dk_at dksX8_found_2 10 rfl rfl)
theorem dX8_found_57 : decode cX8_found 57 = .ok (.ireturn, 1) := dk_172 (dk_at dksX8_found_2 12 rfl rfl)
theorem dX8_found_58 : decode cX8_found 58 = .ok (.iload 4, 2) := dk_21 4 (dk_at dksX8_found_2 13 rfl rfl)
theorem dX8_found_60 : decode cX8_found 60 = .ok (.aload_n 0, 1) := dk_42 (dk_at dksX8_found_2 15 rfl rfl)
theorem dX8_found_61 : decode cX8_found 61 = .ok (.getfield 199, 3) := dk_180 0 199 (dk_at dksX8_found_2 16 rfl rfl)
theorem dX8_found_64 : decode cX8_found 64 = .ok (.if_icmp .ge 13, 3) := dk_162 0 13 (dk_at dksX8_found_2 19 rfl rfl)
theorem dX8_found_67 : decode cX8_found 67 = .ok (.aload_n 0, 1) := dk_42 (dk_at dksX8_found_2 22 rfl rfl)
theorem dX8_found_68 : decode cX8_found 68 = .ok (.getfield 71, 3) := dk_180 0 71 (dk_at dksX8_found_3 0 rfl rfl)
theorem dX8_found_71 : decode cX8_found 71 = .ok (.iload 4, 2) := dk_21 4 (dk_at dksX8_found_3 3 rfl rfl)
theorem dX8_found_73 : decode cX8_found 73 = .ok (.iaload, 1) := dk_46 (dk_at dksX8_found_3 5 rfl rfl)
theorem dX8_found_74 : decode cX8_found 74 = .ok (.goto 5, 3) := dk_167 0 5 (dk_at dksX8_found_3 6 rfl rfl)
theorem dX8_found_77 : decode cX8_found 77 = .ok (.bipush (-4), 2) := dk_16 252 (dk_at dksX8_found_3 9 rfl rfl)
theorem dX8_found_79 : decode cX8_found 79 = .ok (.ireturn, 1) := dk_172 (dk_at dksX8_found_3 11 rfl rfl)
abbrev cX8_isBetween : ByteArray := prog_11_method_43_code
def yX8_isBetween : MethodName := ⟨RX8, "isBetween", "(II)Z"⟩
def dkwX8_isBetween_1 : List UInt8 := [163, 0, 7, 4, 167, 0, 4, 3, 172]
abbrev dktX8_isBetween_1 : List UInt8 := dkwX8_isBetween_1 ++ []
def dkwX8_isBetween_0 : List UInt8 := [26, 3, 16, 99, 184, 0, 93, 153, 0, 22, 27, 3, 16, 99, 184, 0, 93, 153, 0, 12, 26, 27]
abbrev dktX8_isBetween_0 : List UInt8 := dkwX8_isBetween_0 ++ dktX8_isBetween_1
theorem dksX8_isBetween_0 : cX8_isBetween.data.toList.drop 0 = dktX8_isBetween_0 := by decide +kernel
theorem dksX8_isBetween_1 : cX8_isBetween.data.toList.drop 22 = dktX8_isBetween_1 := dk_seg dksX8_isBetween_0 22 rfl rfl
theorem dX8_isBetween_0 : decode cX8_isBetween 0 = .ok (.iload_n 0, 1) := dk_26 (dk_at dksX8_isBetween_0 0 rfl rfl)
theorem dX8_isBetween_1 : decode cX8_isBetween 1 = .ok (.iconst 0, 1) := dk_3 (dk_at dksX8_isBetween_0 1 rfl rfl)
theorem dX8_isBetween_2 : decode cX8_isBetween 2 = .ok (.bipush 99, 2) := dk_16 99 (dk_at dksX8_isBetween_0 2 rfl rfl)
theorem dX8_isBetween_4 : decode cX8_isBetween 4 = .ok (.invokestatic 93, 3) := dk_184 0 93 (dk_at dksX8_isBetween_0 4 rfl rfl)
theorem dX8_isBetween_7 : decode cX8_isBetween 7 = .ok (.ifCond .eq 22, 3) := dk_153 0 22 (dk_at dksX8_isBetween_0 7 rfl rfl)
theorem dX8_isBetween_10 : decode cX8_isBetween 10 = .ok (.iload_n 1, 1) := dk_27 (dk_at dksX8_isBetween_0 10 rfl rfl)
theorem dX8_isBetween_11 : decode cX8_isBetween 11 = .ok (.iconst 0, 1) := dk_3 (dk_at dksX8_isBetween_0 11 rfl rfl)
theorem dX8_isBetween_12 : decode cX8_isBetween 12 = .ok (.bipush 99, 2) := dk_16 99 (dk_at dksX8_isBetween_0 12 rfl rfl)
theorem dX8_isBetween_14 : decode cX8_isBetween 14 = .ok (.invokestatic 93, 3) := dk_184 0 93 (dk_at dksX8_isBetween_0 14 rfl rfl)
theorem dX8_isBetween_17 : decode cX8_isBetween 17 = .ok (.ifCond .eq 12, 3) := dk_153 0 12 (dk_at dksX8_isBetween_0 17 rfl rfl)
theorem dX8_isBetween_20 : decode cX8_isBetween 20 = .ok (.iload_n 0, 1) := dk_26 (dk_at dksX8_isBetween_0 20 rfl rfl)
theorem dX8_isBetween_21 : decode cX8_isBetween 21 = .ok (.iload_n 1, 1) := dk_27 (dk_at dksX8_isBetween_0 21 rfl rfl)
theorem dX8_isBetween_22 : decode cX8_isBetween 22 = .ok (.if_icmp .gt 7, 3) := dk_163 0 7 (dk_at dksX8_isBetween_1 0 rfl rfl)
theorem dX8_isBetween_25 : decode cX8_isBetween 25 = .ok (.iconst 1, 1) := dk_4 (dk_at dksX8_isBetween_1 3 rfl rfl)
theorem dX8_isBetween_26 : decode cX8_isBetween 26 = .ok (.goto 4, 3) := dk_167 0 4 (dk_at dksX8_isBetween_1 4 rfl rfl)
theorem dX8_isBetween_29 : decode cX8_isBetween 29 = .ok (.iconst 0, 1) := dk_3 (dk_at dksX8_isBetween_1 7 rfl rfl)
theorem dX8_isBetween_30 : decode cX8_isBetween 30 = .ok (.ireturn, 1) := dk_172 (dk_at dksX8_isBetween_1 8 rfl rfl)
abbrev cX8_looksAt : ByteArray := prog_11_method_42_code
def yX8_looksAt : MethodName := ⟨RX8, "looksAt", "(III)I"⟩
def dkwX8_looksAt_8 : List UInt8 := [180, 0, 59, 21, 5, 42, 180, 0, 26, 21, 6, 46, 79, 132, 5, 1, 167, 255, 82, 21, 4, 172]
abbrev dktX8_looksAt_8 : List UInt8 := dkwX8_looksAt_8 ++ []
def dkwX8_looksAt_7 : List UInt8 := [180, 0, 59, 21, 5, 42, 180, 0, 29, 21, 6, 46, 79, 132, 5, 1, 21, 8, 153, 0, 20, 42]
abbrev dktX8_looksAt_7 : List UInt8 := dkwX8_looksAt_7 ++ dktX8_looksAt_8
def dkwX8_looksAt_6 : List UInt8 := [42, 180, 0, 35, 21, 6, 46, 28, 163, 0, 7, 4, 167, 0, 4, 3, 54, 9, 21, 9, 153, 0, 20, 42]
abbrev dktX8_looksAt_6 : List UInt8 := dkwX8_looksAt_6 ++ dktX8_looksAt_7
def dkwX8_looksAt_5 : List UInt8 := [182, 0, 113, 154, 0, 83, 42, 180, 0, 35, 21, 6, 46, 27, 161, 0, 7, 4, 167, 0, 4, 3, 54, 8]
abbrev dktX8_looksAt_5 : List UInt8 := dkwX8_looksAt_5 ++ dktX8_looksAt_6
def dkwX8_looksAt_4 : List UInt8 := [180, 0, 71, 42, 180, 0, 199, 21, 7, 79, 42, 89, 180, 0, 199, 4, 96, 181, 0, 199, 42, 21, 6]
abbrev dktX8_looksAt_4 : List UInt8 := dkwX8_looksAt_4 ++ dktX8_looksAt_5
def dkwX8_looksAt_3 : List UInt8 := [29, 164, 0, 6, 167, 255, 210, 42, 180, 0, 13, 21, 7, 46, 27, 28, 184, 0, 93, 153, 0, 24, 42]
abbrev dktX8_looksAt_3 : List UInt8 := dkwX8_looksAt_3 ++ dktX8_looksAt_4
def dkwX8_looksAt_2 : List UInt8 := [180, 0, 53, 21, 6, 46, 54, 7, 132, 4, 1, 21, 7, 16, 252, 159, 255, 223, 42, 21, 7, 182, 0, 146]
abbrev dktX8_looksAt_2 : List UInt8 := dkwX8_looksAt_2 ++ dktX8_looksAt_3
def dkwX8_looksAt_1 : List UInt8 := [180, 0, 22, 79, 21, 5, 158, 0, 175, 132, 5, 255, 42, 180, 0, 59, 21, 5, 46, 54, 6, 42]
abbrev dktX8_looksAt_1 : List UInt8 := dkwX8_looksAt_1 ++ dktX8_looksAt_2
def dkwX8_looksAt_0 : List UInt8 := [42, 182, 0, 155, 87, 42, 3, 181, 0, 199, 3, 54, 4, 4, 54, 5, 42, 180, 0, 59, 3, 42]
abbrev dktX8_looksAt_0 : List UInt8 := dkwX8_looksAt_0 ++ dktX8_looksAt_1
theorem dksX8_looksAt_0 : cX8_looksAt.data.toList.drop 0 = dktX8_looksAt_0 := by decide +kernel
theorem dksX8_looksAt_1 : cX8_looksAt.data.toList.drop 22 = dktX8_looksAt_1 := dk_seg dksX8_looksAt_0 22 rfl rfl
theorem dksX8_looksAt_2 : cX8_looksAt.data.toList.drop 44 = dktX8_looksAt_2 := dk_seg dksX8_looksAt_1 22 rfl rfl
theorem dksX8_looksAt_3 : cX8_looksAt.data.toList.drop 68 = dktX8_looksAt_3 := dk_seg dksX8_looksAt_2 24 rfl rfl
theorem dksX8_looksAt_4 : cX8_looksAt.data.toList.drop 91 = dktX8_looksAt_4 := dk_seg dksX8_looksAt_3 23 rfl rfl
theorem dksX8_looksAt_5 : cX8_looksAt.data.toList.drop 114 = dktX8_looksAt_5 := dk_seg dksX8_looksAt_4 23 rfl rfl
theorem dksX8_looksAt_6 : cX8_looksAt.data.toList.drop 138 = dktX8_looksAt_6 := dk_seg dksX8_looksAt_5 24 rfl rfl
theorem dksX8_looksAt_7 : cX8_looksAt.data.toList.drop 162 = dktX8_looksAt_7 := dk_seg dksX8_looksAt_6 24 rfl rfl
theorem dksX8_looksAt_8 : cX8_looksAt.data.toList.drop 184 = dktX8_looksAt_8 := dk_seg dksX8_looksAt_7 22 rfl rfl
theorem dX8_looksAt_0 : decode cX8_looksAt 0 = .ok (.aload_n 0, 1) := dk_42 (dk_at dksX8_looksAt_0 0 rfl rfl)
theorem dX8_looksAt_1 : decode cX8_looksAt 1 = .ok (.invokevirtual 155, 3) := dk_182 0 155 (dk_at dksX8_looksAt_0 1 rfl rfl)
theorem dX8_looksAt_4 : decode cX8_looksAt 4 = .ok (.pop, 1) := dk_87 (dk_at dksX8_looksAt_0 4 rfl rfl)
theorem dX8_looksAt_5 : decode cX8_looksAt 5 = .ok (.aload_n 0, 1) := dk_42 (dk_at dksX8_looksAt_0 5 rfl rfl)
theorem dX8_looksAt_6 : decode cX8_looksAt 6 = .ok (.iconst 0, 1) := dk_3 (dk_at dksX8_looksAt_0 6 rfl rfl)
theorem dX8_looksAt_7 : decode cX8_looksAt 7 = .ok (.putfield 199, 3) := dk_181 0 199 (dk_at dksX8_looksAt_0 7 rfl rfl)
theorem dX8_looksAt_10 : decode cX8_looksAt 10 = .ok (.iconst 0, 1) := dk_3 (dk_at dksX8_looksAt_0 10 rfl rfl)
theorem dX8_looksAt_11 : decode cX8_looksAt 11 = .ok (.istore 4, 2) := dk_54 4 (dk_at dksX8_looksAt_0 11 rfl rfl)
theorem dX8_looksAt_13 : decode cX8_looksAt 13 = .ok (.iconst 1, 1) := dk_4 (dk_at dksX8_looksAt_0 13 rfl rfl)
theorem dX8_looksAt_14 : decode cX8_looksAt 14 = .ok (.istore 5, 2) := dk_54 5 (dk_at dksX8_looksAt_0 14 rfl rfl)
theorem dX8_looksAt_16 : decode cX8_looksAt 16 = .ok (.aload_n 0, 1) := dk_42 (dk_at dksX8_looksAt_0 16 rfl rfl)
theorem dX8_looksAt_17 : decode cX8_looksAt 17 = .ok (.getfield 59, 3) := dk_180 0 59 (dk_at dksX8_looksAt_0 17 rfl rfl)
theorem dX8_looksAt_20 : decode cX8_looksAt 20 = .ok (.iconst 0, 1) := dk_3 (dk_at dksX8_looksAt_0 20 rfl rfl)
theorem dX8_looksAt_21 : decode cX8_looksAt 21 = .ok (.aload_n 0, 1) := dk_42 (dk_at dksX8_looksAt_0 21 rfl rfl)
theorem dX8_looksAt_22 : decode cX8_looksAt 22 = .ok (.getfield 22, 3) := dk_180 0 22 (dk_at dksX8_looksAt_1 0 rfl rfl)
theorem dX8_looksAt_25 : decode cX8_looksAt 25 = .ok (.iastore, 1) := dk_79 (dk_at dksX8_looksAt_1 3 rfl rfl)
theorem dX8_looksAt_26 : decode cX8_looksAt 26 = .ok (.iload 5, 2) := dk_21 5 (dk_at dksX8_looksAt_1 4 rfl rfl)
theorem dX8_looksAt_28 : decode cX8_looksAt 28 = .ok (.ifCond .le 175, 3) := dk_158 0 175 (dk_at dksX8_looksAt_1 6 rfl rfl)
theorem dX8_looksAt_31 : decode cX8_looksAt 31 = .ok (.iinc 5 (-1), 3) := dk_132 5 255 (dk_at dksX8_looksAt_1 9 rfl rfl)
theorem dX8_looksAt_34 : decode cX8_looksAt 34 = .ok (.aload_n 0, 1) := dk_42 (dk_at dksX8_looksAt_1 12 rfl rfl)
theorem dX8_looksAt_35 : decode cX8_looksAt 35 = .ok (.getfield 59, 3) := dk_180 0 59 (dk_at dksX8_looksAt_1 13 rfl rfl)
theorem dX8_looksAt_38 : decode cX8_looksAt 38 = .ok (.iload 5, 2) := dk_21 5 (dk_at dksX8_looksAt_1 16 rfl rfl)
theorem dX8_looksAt_40 : decode cX8_looksAt 40 = .ok (.iaload, 1) := dk_46 (dk_at dksX8_looksAt_1 18 rfl rfl)
theorem dX8_looksAt_41 : decode cX8_looksAt 41 = .ok (.istore 6, 2) := dk_54 6 (dk_at dksX8_looksAt_1 19 rfl rfl)
theorem dX8_looksAt_43 : decode cX8_looksAt 43 = .ok (.aload_n 0, 1) := dk_42 (dk_at dksX8_looksAt_1 21 rfl rfl)
theorem dX8_looksAt_44 : decode cX8_looksAt 44 = .ok (.getfield 53, 3) := dk_180 0 53 (dk_at dksX8_looksAt_2 0 rfl rfl)
theorem dX8_looksAt_47 : decode cX8_looksAt 47 = .ok (.iload 6, 2) := dk_21 6 (dk_at dksX8_looksAt_2 3 rfl rfl)
theorem dX8_looksAt_49 : decode cX8_looksAt 49 = .ok (.iaload, 1) := dk_46 (dk_at dksX8_looksAt_2 5 rfl rfl)
theorem dX8_looksAt_50 : decode cX8_looksAt 50 = .ok (.istore 7, 2) := dk_54 7 (dk_at dksX8_looksAt_2 6 rfl rfl)
theorem dX8_looksAt_52 : decode cX8_looksAt 52 = .ok (.iinc 4 1, 3) := dk_132 4 1 (dk_at dksX8_looksAt_2 8 rfl rfl)
theorem dX8_looksAt_55 : decode cX8_looksAt 55 = .ok (.iload 7, 2) := dk_21 7 (dk_at dksX8_looksAt_2 11 rfl rfl)
theorem dX8_looksAt_57 : decode cX8_looksAt 57 = .ok (.bipush (-4), 2) := dk_16 252 (dk_at dksX8_looksAt_2 13 rfl rfl)
theorem dX8_looksAt_59 : decode cX8_looksAt 59 = .ok (.if_icmp .eq (-33), 3) := dk_159 255 223 (dk_at dksX8_looksAt_2 15 rfl rfl)
theorem dX8_looksAt_62 : decode cX8_looksAt 62 = .ok (.aload_n 0, 1) := dk_42 (dk_at dksX8_looksAt_2 18 rfl rfl)
theorem dX8_looksAt_63 : decode cX8_looksAt 63 = .ok (.iload 7, 2) := dk_21 7 (dk_at dksX8_looksAt_2 19 rfl rfl)
theorem dX8_looksAt_65 : decode cX8_looksAt 65 = .ok (.invokevirtual 146, 3) := dk_182 0 146 (dk_at dksX8_looksAt_2 21 rfl rfl)
theorem dX8_looksAt_68 : decode cX8_looksAt 68 = .ok (.iload_n 3, 1) := dk_29 (dk_at dksX8_looksAt_3 0 rfl rfl)
theorem dX8_looksAt_69 : decode cX8_looksAt 69 = .ok (.if_icmp .le 6, 3) := dk_164 0 6 (dk_at dksX8_looksAt_3 1 rfl rfl)
theorem dX8_looksAt_72 : decode cX8_looksAt 72 = .ok (.goto (-46), 3) := dk_167 255 210 (dk_at dksX8_looksAt_3 4 rfl rfl)
theorem dX8_looksAt_75 : decode cX8_looksAt 75 = .ok (.aload_n 0, 1) := dk_42 (dk_at dksX8_looksAt_3 7 rfl rfl)
theorem dX8_looksAt_76 : decode cX8_looksAt 76 = .ok (.getfield 13, 3) := dk_180 0 13 (dk_at dksX8_looksAt_3 8 rfl rfl)
theorem dX8_looksAt_79 : decode cX8_looksAt 79 = .ok (.iload 7, 2) := dk_21 7 (dk_at dksX8_looksAt_3 11 rfl rfl)
theorem dX8_looksAt_81 : decode cX8_looksAt 81 = .ok (.iaload, 1) := dk_46 (dk_at dksX8_looksAt_3 13 rfl rfl)
theorem dX8_looksAt_82 : decode cX8_looksAt 82 = .ok (.iload_n 1, 1) := dk_27 (dk_at dksX8_looksAt_3 14 rfl rfl)
theorem dX8_looksAt_83 : decode cX8_looksAt 83 = .ok (.iload_n 2, 1) := dk_28 (dk_at dksX8_looksAt_3 15 rfl rfl)
theorem dX8_looksAt_84 : decode cX8_looksAt 84 = .ok (.invokestatic 93, 3) := dk_184 0 93 (dk_at dksX8_looksAt_3 16 rfl rfl)
theorem dX8_looksAt_87 : decode cX8_looksAt 87 = .ok (.ifCond .eq 24, 3) := dk_153 0 24 (dk_at dksX8_looksAt_3 19 rfl rfl)
theorem dX8_looksAt_90 : decode cX8_looksAt 90 = .ok (.aload_n 0, 1) := dk_42 (dk_at dksX8_looksAt_3 22 rfl rfl)
theorem dX8_looksAt_91 : decode cX8_looksAt 91 = .ok (.getfield 71, 3) := dk_180 0 71 (dk_at dksX8_looksAt_4 0 rfl rfl)
theorem dX8_looksAt_94 : decode cX8_looksAt 94 = .ok (.aload_n 0, 1) := dk_42 (dk_at dksX8_looksAt_4 3 rfl rfl)
theorem dX8_looksAt_95 : decode cX8_looksAt 95 = .ok (.getfield 199, 3) := dk_180 0 199 (dk_at dksX8_looksAt_4 4 rfl rfl)
theorem dX8_looksAt_98 : decode cX8_looksAt 98 = .ok (.iload 7, 2) := dk_21 7 (dk_at dksX8_looksAt_4 7 rfl rfl)
theorem dX8_looksAt_100 : decode cX8_looksAt 100 = .ok (.iastore, 1) := dk_79 (dk_at dksX8_looksAt_4 9 rfl rfl)
theorem dX8_looksAt_101 : decode cX8_looksAt 101 = .ok (.aload_n 0, 1) := dk_42 (dk_at dksX8_looksAt_4 10 rfl rfl)
theorem dX8_looksAt_102 : decode cX8_looksAt 102 = .ok (.dup, 1) := dk_89 (dk_at dksX8_looksAt_4 11 rfl rfl)
theorem dX8_looksAt_103 : decode cX8_looksAt 103 = .ok (.getfield 199, 3) := dk_180 0 199 (dk_at dksX8_looksAt_4 12 rfl rfl)
theorem dX8_looksAt_106 : decode cX8_looksAt 106 = .ok (.iconst 1, 1) := dk_4 (dk_at dksX8_looksAt_4 15 rfl rfl)
theorem dX8_looksAt_107 : decode cX8_looksAt 107 = .ok (.iadd, 1) := dk_96 (dk_at dksX8_looksAt_4 16 rfl rfl)
theorem dX8_looksAt_108 : decode cX8_looksAt 108 = .ok (.putfield 199, 3) := dk_181 0 199 (dk_at dksX8_looksAt_4 17 rfl rfl)
theorem dX8_looksAt_111 : decode cX8_looksAt 111 = .ok (.aload_n 0, 1) := dk_42 (dk_at dksX8_looksAt_4 20 rfl rfl)
theorem dX8_looksAt_112 : decode cX8_looksAt 112 = .ok (.iload 6, 2) := dk_21 6 (dk_at dksX8_looksAt_4 21 rfl rfl)
theorem dX8_looksAt_114 : decode cX8_looksAt 114 = .ok (.invokevirtual 113, 3) := dk_182 0 113 (dk_at dksX8_looksAt_5 0 rfl rfl)
theorem dX8_looksAt_117 : decode cX8_looksAt 117 = .ok (.ifCond .ne 83, 3) := dk_154 0 83 (dk_at dksX8_looksAt_5 3 rfl rfl)
theorem dX8_looksAt_120 : decode cX8_looksAt 120 = .ok (.aload_n 0, 1) := dk_42 (dk_at dksX8_looksAt_5 6 rfl rfl)
theorem dX8_looksAt_121 : decode cX8_looksAt 121 = .ok (.getfield 35, 3) := dk_180 0 35 (dk_at dksX8_looksAt_5 7 rfl rfl)
theorem dX8_looksAt_124 : decode cX8_looksAt 124 = .ok (.iload 6, 2) := dk_21 6 (dk_at dksX8_looksAt_5 10 rfl rfl)
theorem dX8_looksAt_126 : decode cX8_looksAt 126 = .ok (.iaload, 1) := dk_46 (dk_at dksX8_looksAt_5 12 rfl rfl)
theorem dX8_looksAt_127 : decode cX8_looksAt 127 = .ok (.iload_n 1, 1) := dk_27 (dk_at dksX8_looksAt_5 13 rfl rfl)
theorem dX8_looksAt_128 : decode cX8_looksAt 128 = .ok (.if_icmp .lt 7, 3) := dk_161 0 7 (dk_at dksX8_looksAt_5 14 rfl rfl)
theorem dX8_looksAt_131 : decode cX8_looksAt 131 = .ok (.iconst 1, 1) := dk_4 (dk_at dksX8_looksAt_5 17 rfl rfl)
theorem dX8_looksAt_132 : decode cX8_looksAt 132 = .ok (.goto 4, 3) := dk_167 0 4 (dk_at dksX8_looksAt_5 18 rfl rfl)
theorem dX8_looksAt_135 : decode cX8_looksAt 135 = .ok (.iconst 0, 1) := dk_3 (dk_at dksX8_looksAt_5 21 rfl rfl)
theorem dX8_looksAt_136 : decode cX8_looksAt 136 = .ok (.istore 8, 2) := dk_54 8 (dk_at dksX8_looksAt_5 22 rfl rfl)
theorem dX8_looksAt_138 : decode cX8_looksAt 138 = .ok (.aload_n 0, 1) := dk_42 (dk_at dksX8_looksAt_6 0 rfl rfl)
theorem dX8_looksAt_139 : decode cX8_looksAt 139 = .ok (.getfield 35, 3) := dk_180 0 35 (dk_at dksX8_looksAt_6 1 rfl rfl)
theorem dX8_looksAt_142 : decode cX8_looksAt 142 = .ok (.iload 6, 2) := dk_21 6 (dk_at dksX8_looksAt_6 4 rfl rfl)
theorem dX8_looksAt_144 : decode cX8_looksAt 144 = .ok (.iaload, 1) := dk_46 (dk_at dksX8_looksAt_6 6 rfl rfl)
theorem dX8_looksAt_145 : decode cX8_looksAt 145 = .ok (.iload_n 2, 1) := dk_28 (dk_at dksX8_looksAt_6 7 rfl rfl)
theorem dX8_looksAt_146 : decode cX8_looksAt 146 = .ok (.if_icmp .gt 7, 3) := dk_163 0 7 (dk_at dksX8_looksAt_6 8 rfl rfl)
theorem dX8_looksAt_149 : decode cX8_looksAt 149 = .ok (.iconst 1, 1) := dk_4 (dk_at dksX8_looksAt_6 11 rfl rfl)
theorem dX8_looksAt_150 : decode cX8_looksAt 150 = .ok (.goto 4, 3) := dk_167 0 4 (dk_at dksX8_looksAt_6 12 rfl rfl)
theorem dX8_looksAt_153 : decode cX8_looksAt 153 = .ok (.iconst 0, 1) := dk_3 (dk_at dksX8_looksAt_6 15 rfl rfl)
theorem dX8_looksAt_154 : decode cX8_looksAt 154 = .ok (.istore 9, 2) := dk_54 9 (dk_at dksX8_looksAt_6 16 rfl rfl)
theorem dX8_looksAt_156 : decode cX8_looksAt 156 = .ok (.iload 9, 2) := dk_21 9 (dk_at dksX8_looksAt_6 18 rfl rfl)
theorem dX8_looksAt_158 : decode cX8_looksAt 158 = .ok (.ifCond .eq 20, 3) := dk_153 0 20 (dk_at dksX8_looksAt_6 20 rfl rfl)
theorem dX8_looksAt_161 : decode cX8_looksAt 161 = .ok (.aload_n 0, 1) := dk_42 (dk_at dksX8_looksAt_6 23 rfl rfl)
theorem dX8_looksAt_162 : decode cX8_looksAt 162 = .ok (.getfield 59, 3) := dk_180 0 59 (dk_at dksX8_looksAt_7 0 rfl rfl)
theorem dX8_looksAt_165 : decode cX8_looksAt 165 = .ok (.iload 5, 2) := dk_21 5 (dk_at dksX8_looksAt_7 3 rfl rfl)
theorem dX8_looksAt_167 : decode cX8_looksAt 167 = .ok (.aload_n 0, 1) := dk_42 (dk_at dksX8_looksAt_7 5 rfl rfl)
theorem dX8_looksAt_168 : decode cX8_looksAt 168 = .ok (.getfield 29, 3) := dk_180 0 29 (dk_at dksX8_looksAt_7 6 rfl rfl)
theorem dX8_looksAt_171 : decode cX8_looksAt 171 = .ok (.iload 6, 2) := dk_21 6 (dk_at dksX8_looksAt_7 9 rfl rfl)
theorem dX8_looksAt_173 : decode cX8_looksAt 173 = .ok (.iaload, 1) := dk_46 (dk_at dksX8_looksAt_7 11 rfl rfl)
theorem dX8_looksAt_174 : decode cX8_looksAt 174 = .ok (.iastore, 1) := dk_79 (dk_at dksX8_looksAt_7 12 rfl rfl)
theorem dX8_looksAt_175 : decode cX8_looksAt 175 = .ok (.iinc 5 1, 3) := dk_132 5 1 (dk_at dksX8_looksAt_7 13 rfl rfl)
theorem dX8_looksAt_178 : decode cX8_looksAt 178 = .ok (.iload 8, 2) := dk_21 8 (dk_at dksX8_looksAt_7 16 rfl rfl)
theorem dX8_looksAt_180 : decode cX8_looksAt 180 = .ok (.ifCond .eq 20, 3) := dk_153 0 20 (dk_at dksX8_looksAt_7 18 rfl rfl)
theorem dX8_looksAt_183 : decode cX8_looksAt 183 = .ok (.aload_n 0, 1) := dk_42 (dk_at dksX8_looksAt_7 21 rfl rfl)
theorem dX8_looksAt_184 : decode cX8_looksAt 184 = .ok (.getfield 59, 3) := dk_180 0 59 (dk_at dksX8_looksAt_8 0 rfl rfl)
theorem dX8_looksAt_187 : decode cX8_looksAt 187 = .ok (.iload 5, 2) := dk_21 5 (dk_at dksX8_looksAt_8 3 rfl rfl)
theorem dX8_looksAt_189 : decode cX8_looksAt 189 = .ok (.aload_n 0, 1) := dk_42 (dk_at dksX8_looksAt_8 5 rfl rfl)
theorem dX8_looksAt_190 : decode cX8_looksAt 190 = .ok (.getfield 26, 3) := dk_180 0 26 (dk_at dksX8_looksAt_8 6 rfl rfl)
theorem dX8_looksAt_193 : decode cX8_looksAt 193 = .ok (.iload 6, 2) := dk_21 6 (dk_at dksX8_looksAt_8 9 rfl rfl)
theorem dX8_looksAt_195 : decode cX8_looksAt 195 = .ok (.iaload, 1) := dk_46 (dk_at dksX8_looksAt_8 11 rfl rfl)
theorem dX8_looksAt_196 : decode cX8_looksAt 196 = .ok (.iastore, 1) := dk_79 (dk_at dksX8_looksAt_8 12 rfl rfl)
theorem dX8_looksAt_197 : decode cX8_looksAt 197 = .ok (.iinc 5 1, 3) := dk_132 5 1 (dk_at dksX8_looksAt_8 13 rfl rfl)
theorem dX8_looksAt_200 : decode cX8_looksAt 200 = .ok (.goto (-174), 3) := dk_167 255 82 (dk_at dksX8_looksAt_8 16 rfl rfl)
theorem dX8_looksAt_203 : decode cX8_looksAt 203 = .ok (.iload 4, 2) := dk_21 4 (dk_at dksX8_looksAt_8 19 rfl rfl)
theorem dX8_looksAt_205 : decode cX8_looksAt 205 = .ok (.ireturn, 1) := dk_172 (dk_at dksX8_looksAt_8 21 rfl rfl)
abbrev cX8_first : ByteArray := prog_11_method_45_code
def yX8_first : MethodName := ⟨RX8, "first", "(III)I"⟩
def dkwX8_first_5 : List UInt8 := [160, 0, 7, 3, 167, 0, 7, 4, 21, 5, 120, 128, 54, 4, 132, 6, 1, 167, 255, 153, 21, 5, 172]
abbrev dktX8_first_5 : List UInt8 := dkwX8_first_5 ++ []
def dkwX8_first_4 : List UInt8 := [153, 0, 8, 21, 7, 167, 0, 5, 21, 5, 54, 5, 132, 7, 1, 167, 255, 192, 21, 4, 21, 5, 16, 252]
abbrev dktX8_first_4 : List UInt8 := dkwX8_first_4 ++ dktX8_first_5
def dkwX8_first_3 : List UInt8 := [180, 0, 13, 21, 7, 46, 27, 28, 184, 0, 93, 153, 0, 19, 42, 21, 7, 21, 5, 182, 0, 149]
abbrev dktX8_first_3 : List UInt8 := dkwX8_first_3 ++ dktX8_first_4
def dkwX8_first_2 : List UInt8 := [162, 0, 63, 42, 21, 7, 182, 0, 159, 153, 0, 44, 21, 4, 21, 7, 184, 0, 97, 154, 0, 34, 42]
abbrev dktX8_first_2 : List UInt8 := dkwX8_first_2 ++ dktX8_first_3
def dkwX8_first_1 : List UInt8 := [16, 252, 54, 5, 3, 54, 6, 21, 6, 29, 163, 0, 103, 16, 252, 54, 5, 3, 54, 7, 21, 7, 16, 12]
abbrev dktX8_first_1 : List UInt8 := dkwX8_first_1 ++ dktX8_first_2
def dkwX8_first_0 : List UInt8 := [27, 28, 184, 0, 202, 153, 0, 13, 29, 3, 16, 11, 184, 0, 93, 154, 0, 5, 2, 172, 3, 54, 4]
abbrev dktX8_first_0 : List UInt8 := dkwX8_first_0 ++ dktX8_first_1
theorem dksX8_first_0 : cX8_first.data.toList.drop 0 = dktX8_first_0 := by decide +kernel
theorem dksX8_first_1 : cX8_first.data.toList.drop 23 = dktX8_first_1 := dk_seg dksX8_first_0 23 rfl rfl
theorem dksX8_first_2 : cX8_first.data.toList.drop 47 = dktX8_first_2 := dk_seg dksX8_first_1 24 rfl rfl
theorem dksX8_first_3 : cX8_first.data.toList.drop 70 = dktX8_first_3 := dk_seg dksX8_first_2 23 rfl rfl
theorem dksX8_first_4 : cX8_first.data.toList.drop 92 = dktX8_first_4 := dk_seg dksX8_first_3 22 rfl rfl
theorem dksX8_first_5 : cX8_first.data.toList.drop 116 = dktX8_first_5 := dk_seg dksX8_first_4 24 rfl rfl
theorem dX8_first_0 : decode cX8_first 0 = .ok (.iload_n 1, 1) := dk_27 (dk_at dksX8_first_0 0 rfl rfl)
theorem dX8_first_1 : decode cX8_first 1 = .ok (.iload_n 2, 1) := dk_28 (dk_at dksX8_first_0 1 rfl rfl)
theorem dX8_first_2 : decode cX8_first 2 = .ok (.invokestatic 202, 3) := dk_184 0 202 (dk_at dksX8_first_0 2 rfl rfl)
theorem dX8_first_5 : decode cX8_first 5 = .ok (.ifCond .eq 13, 3) := dk_153 0 13 (dk_at dksX8_first_0 5 rfl rfl)
theorem dX8_first_8 : decode cX8_first 8 = .ok (.iload_n 3, 1) := dk_29 (dk_at dksX8_first_0 8 rfl rfl)
theorem dX8_first_9 : decode cX8_first 9 = .ok (.iconst 0, 1) := dk_3 (dk_at dksX8_first_0 9 rfl rfl)
theorem dX8_first_10 : decode cX8_first 10 = .ok (.bipush 11, 2) := dk_16 11 (dk_at dksX8_first_0 10 rfl rfl)
theorem dX8_first_12 : decode cX8_first 12 = .ok (.invokestatic 93, 3) := dk_184 0 93 (dk_at dksX8_first_0 12 rfl rfl)
theorem dX8_first_15 : decode cX8_first 15 = .ok (.ifCond .ne 5, 3) := dk_154 0 5 (dk_at dksX8_first_0 15 rfl rfl)
theorem dX8_first_18 : decode cX8_first 18 = .ok (.iconst (-1), 1) := dk_2 (dk_at dksX8_first_0 18 rfl rfl)
theorem dX8_first_19 : decode cX8_first 19 = .ok (.ireturn, 1) := dk_172 (dk_at dksX8_first_0 19 rfl rfl)
theorem dX8_first_20 : decode cX8_first 20 = .ok (.iconst 0, 1) := dk_3 (dk_at dksX8_first_0 20 rfl rfl)
theorem dX8_first_21 : decode cX8_first 21 = .ok (.istore 4, 2) := dk_54 4 (dk_at dksX8_first_0 21 rfl rfl)
theorem dX8_first_23 : decode cX8_first 23 = .ok (.bipush (-4), 2) := dk_16 252 (dk_at dksX8_first_1 0 rfl rfl)
theorem dX8_first_25 : decode cX8_first 25 = .ok (.istore 5, 2) := dk_54 5 (dk_at dksX8_first_1 2 rfl rfl)
theorem dX8_first_27 : decode cX8_first 27 = .ok (.iconst 0, 1) := dk_3 (dk_at dksX8_first_1 4 rfl rfl)
theorem dX8_first_28 : decode cX8_first 28 = .ok (.istore 6, 2) := dk_54 6 (dk_at dksX8_first_1 5 rfl rfl)
theorem dX8_first_30 : decode cX8_first 30 = .ok (.iload 6, 2) := dk_21 6 (dk_at dksX8_first_1 7 rfl rfl)
theorem dX8_first_32 : decode cX8_first 32 = .ok (.iload_n 3, 1) := dk_29 (dk_at dksX8_first_1 9 rfl rfl)
theorem dX8_first_33 : decode cX8_first 33 = .ok (.if_icmp .gt 103, 3) := dk_163 0 103 (dk_at dksX8_first_1 10 rfl rfl)
theorem dX8_first_36 : decode cX8_first 36 = .ok (.bipush (-4), 2) := dk_16 252 (dk_at dksX8_first_1 13 rfl rfl)
theorem dX8_first_38 : decode cX8_first 38 = .ok (.istore 5, 2) := dk_54 5 (dk_at dksX8_first_1 15 rfl rfl)
theorem dX8_first_40 : decode cX8_first 40 = .ok (.iconst 0, 1) := dk_3 (dk_at dksX8_first_1 17 rfl rfl)
theorem dX8_first_41 : decode cX8_first 41 = .ok (.istore 7, 2) := dk_54 7 (dk_at dksX8_first_1 18 rfl rfl)
theorem dX8_first_43 : decode cX8_first 43 = .ok (.iload 7, 2) := dk_21 7 (dk_at dksX8_first_1 20 rfl rfl)
theorem dX8_first_45 : decode cX8_first 45 = .ok (.bipush 12, 2) := dk_16 12 (dk_at dksX8_first_1 22 rfl rfl)
theorem dX8_first_47 : decode cX8_first 47 = .ok (.if_icmp .ge 63, 3) := dk_162 0 63 (dk_at dksX8_first_2 0 rfl rfl)
theorem dX8_first_50 : decode cX8_first 50 = .ok (.aload_n 0, 1) := dk_42 (dk_at dksX8_first_2 3 rfl rfl)
theorem dX8_first_51 : decode cX8_first 51 = .ok (.iload 7, 2) := dk_21 7 (dk_at dksX8_first_2 4 rfl rfl)
theorem dX8_first_53 : decode cX8_first 53 = .ok (.invokevirtual 159, 3) := dk_182 0 159 (dk_at dksX8_first_2 6 rfl rfl)
theorem dX8_first_56 : decode cX8_first 56 = .ok (.ifCond .eq 44, 3) := dk_153 0 44 (dk_at dksX8_first_2 9 rfl rfl)
theorem dX8_first_59 : decode cX8_first 59 = .ok (.iload 4, 2) := dk_21 4 (dk_at dksX8_first_2 12 rfl rfl)
theorem dX8_first_61 : decode cX8_first 61 = .ok (.iload 7, 2) := dk_21 7 (dk_at dksX8_first_2 14 rfl rfl)
theorem dX8_first_63 : decode cX8_first 63 = .ok (.invokestatic 97, 3) := dk_184 0 97 (dk_at dksX8_first_2 16 rfl rfl)
theorem dX8_first_66 : decode cX8_first 66 = .ok (.ifCond .ne 34, 3) := dk_154 0 34 (dk_at dksX8_first_2 19 rfl rfl)
theorem dX8_first_69 : decode cX8_first 69 = .ok (.aload_n 0, 1) := dk_42 (dk_at dksX8_first_2 22 rfl rfl)
theorem dX8_first_70 : decode cX8_first 70 = .ok (.getfield 13, 3) := dk_180 0 13 (dk_at dksX8_first_3 0 rfl rfl)
theorem dX8_first_73 : decode cX8_first 73 = .ok (.iload 7, 2) := dk_21 7 (dk_at dksX8_first_3 3 rfl rfl)
theorem dX8_first_75 : decode cX8_first 75 = .ok (.iaload, 1) := dk_46 (dk_at dksX8_first_3 5 rfl rfl)
theorem dX8_first_76 : decode cX8_first 76 = .ok (.iload_n 1, 1) := dk_27 (dk_at dksX8_first_3 6 rfl rfl)
theorem dX8_first_77 : decode cX8_first 77 = .ok (.iload_n 2, 1) := dk_28 (dk_at dksX8_first_3 7 rfl rfl)
theorem dX8_first_78 : decode cX8_first 78 = .ok (.invokestatic 93, 3) := dk_184 0 93 (dk_at dksX8_first_3 8 rfl rfl)
theorem dX8_first_81 : decode cX8_first 81 = .ok (.ifCond .eq 19, 3) := dk_153 0 19 (dk_at dksX8_first_3 11 rfl rfl)
theorem dX8_first_84 : decode cX8_first 84 = .ok (.aload_n 0, 1) := dk_42 (dk_at dksX8_first_3 14 rfl rfl)
theorem dX8_first_85 : decode cX8_first 85 = .ok (.iload 7, 2) := dk_21 7 (dk_at dksX8_first_3 15 rfl rfl)
theorem dX8_first_87 : decode cX8_first 87 = .ok (.iload 5, 2) := dk_21 5 (dk_at dksX8_first_3 17 rfl rfl)
theorem dX8_first_89 : decode cX8_first 89 = .ok (.invokevirtual 149, 3) := dk_182 0 149 (dk_at dksX8_first_3 19 rfl rfl)
theorem dX8_first_92 : decode cX8_first 92 = .ok (.ifCond .eq 8, 3) := dk_153 0 8 (dk_at dksX8_first_4 0 rfl rfl)
theorem dX8_first_95 : decode cX8_first 95 = .ok (.iload 7, 2) := dk_21 7 (dk_at dksX8_first_4 3 rfl rfl)
theorem dX8_first_97 : decode cX8_first 97 = .ok (.goto 5, 3) := dk_167 0 5 (dk_at dksX8_first_4 5 rfl rfl)
theorem dX8_first_100 : decode cX8_first 100 = .ok (.iload 5, 2) := dk_21 5 (dk_at dksX8_first_4 8 rfl rfl)
theorem dX8_first_102 : decode cX8_first 102 = .ok (.istore 5, 2) := dk_54 5 (dk_at dksX8_first_4 10 rfl rfl)
theorem dX8_first_104 : decode cX8_first 104 = .ok (.iinc 7 1, 3) := dk_132 7 1 (dk_at dksX8_first_4 12 rfl rfl)
theorem dX8_first_107 : decode cX8_first 107 = .ok (.goto (-64), 3) := dk_167 255 192 (dk_at dksX8_first_4 15 rfl rfl)
theorem dX8_first_110 : decode cX8_first 110 = .ok (.iload 4, 2) := dk_21 4 (dk_at dksX8_first_4 18 rfl rfl)
theorem dX8_first_112 : decode cX8_first 112 = .ok (.iload 5, 2) := dk_21 5 (dk_at dksX8_first_4 20 rfl rfl)
theorem dX8_first_114 : decode cX8_first 114 = .ok (.bipush (-4), 2) := dk_16 252 (dk_at dksX8_first_4 22 rfl rfl)
theorem dX8_first_116 : decode cX8_first 116 = .ok (.if_icmp .ne 7, 3) := dk_160 0 7 (dk_at dksX8_first_5 0 rfl rfl)
theorem dX8_first_119 : decode cX8_first 119 = .ok (.iconst 0, 1) := dk_3 (dk_at dksX8_first_5 3 rfl rfl)
theorem dX8_first_120 : decode cX8_first 120 = .ok (.goto 7, 3) := dk_167 0 7 (dk_at dksX8_first_5 4 rfl rfl)
theorem dX8_first_123 : decode cX8_first 123 = .ok (.iconst 1, 1) := dk_4 (dk_at dksX8_first_5 7 rfl rfl)
theorem dX8_first_124 : decode cX8_first 124 = .ok (.iload 5, 2) := dk_21 5 (dk_at dksX8_first_5 8 rfl rfl)
theorem dX8_first_126 : decode cX8_first 126 = .ok (.ishl, 1) := dk_120 (dk_at dksX8_first_5 10 rfl rfl)
theorem dX8_first_127 : decode cX8_first 127 = .ok (.ior, 1) := dk_128 (dk_at dksX8_first_5 11 rfl rfl)
theorem dX8_first_128 : decode cX8_first 128 = .ok (.istore 4, 2) := dk_54 4 (dk_at dksX8_first_5 12 rfl rfl)
theorem dX8_first_130 : decode cX8_first 130 = .ok (.iinc 6 1, 3) := dk_132 6 1 (dk_at dksX8_first_5 14 rfl rfl)
theorem dX8_first_133 : decode cX8_first 133 = .ok (.goto (-103), 3) := dk_167 255 153 (dk_at dksX8_first_5 17 rfl rfl)
theorem dX8_first_136 : decode cX8_first 136 = .ok (.iload 5, 2) := dk_21 5 (dk_at dksX8_first_5 20 rfl rfl)
theorem dX8_first_138 : decode cX8_first 138 = .ok (.ireturn, 1) := dk_172 (dk_at dksX8_first_5 22 rfl rfl)
abbrev cX8_soonest : ByteArray := prog_11_method_46_code
def yX8_soonest : MethodName := ⟨RX8, "soonest", "(II)I"⟩
def dkwX8_soonest_4 : List UInt8 := [180, 0, 13, 29, 46, 162, 0, 8, 21, 4, 167, 0, 4, 29, 62, 132, 4, 1, 167, 255, 175, 29, 172]
abbrev dktX8_soonest_4 : List UInt8 := dkwX8_soonest_4 ++ []
def dkwX8_soonest_3 : List UInt8 := [3, 54, 5, 21, 5, 153, 0, 30, 29, 16, 252, 159, 0, 19, 42, 180, 0, 13, 21, 4, 46, 42]
abbrev dktX8_soonest_3 : List UInt8 := dkwX8_soonest_3 ++ dktX8_soonest_4
def dkwX8_soonest_2 : List UInt8 := [180, 0, 13, 21, 4, 46, 27, 161, 0, 17, 42, 21, 4, 182, 0, 146, 28, 163, 0, 7, 4, 167, 0, 4]
abbrev dktX8_soonest_2 : List UInt8 := dkwX8_soonest_2 ++ dktX8_soonest_3
def dkwX8_soonest_1 : List UInt8 := [16, 252, 62, 3, 54, 4, 21, 4, 16, 12, 162, 0, 80, 42, 21, 4, 182, 0, 159, 153, 0, 28, 42]
abbrev dktX8_soonest_1 : List UInt8 := dkwX8_soonest_1 ++ dktX8_soonest_2
def dkwX8_soonest_0 : List UInt8 := [27, 3, 16, 99, 184, 0, 93, 153, 0, 14, 28, 3, 17, 0, 200, 184, 0, 93, 154, 0, 5, 2, 172]
abbrev dktX8_soonest_0 : List UInt8 := dkwX8_soonest_0 ++ dktX8_soonest_1
theorem dksX8_soonest_0 : cX8_soonest.data.toList.drop 0 = dktX8_soonest_0 := by decide +kernel
theorem dksX8_soonest_1 : cX8_soonest.data.toList.drop 23 = dktX8_soonest_1 := dk_seg dksX8_soonest_0 23 rfl rfl
theorem dksX8_soonest_2 : cX8_soonest.data.toList.drop 46 = dktX8_soonest_2 := dk_seg dksX8_soonest_1 23 rfl rfl
theorem dksX8_soonest_3 : cX8_soonest.data.toList.drop 70 = dktX8_soonest_3 := dk_seg dksX8_soonest_2 24 rfl rfl
theorem dksX8_soonest_4 : cX8_soonest.data.toList.drop 92 = dktX8_soonest_4 := dk_seg dksX8_soonest_3 22 rfl rfl
theorem dX8_soonest_0 : decode cX8_soonest 0 = .ok (.iload_n 1, 1) := dk_27 (dk_at dksX8_soonest_0 0 rfl rfl)
theorem dX8_soonest_1 : decode cX8_soonest 1 = .ok (.iconst 0, 1) := dk_3 (dk_at dksX8_soonest_0 1 rfl rfl)
theorem dX8_soonest_2 : decode cX8_soonest 2 = .ok (.bipush 99, 2) := dk_16 99 (dk_at dksX8_soonest_0 2 rfl rfl)
theorem dX8_soonest_4 : decode cX8_soonest 4 = .ok (.invokestatic 93, 3) := dk_184 0 93 (dk_at dksX8_soonest_0 4 rfl rfl)
theorem dX8_soonest_7 : decode cX8_soonest 7 = .ok (.ifCond .eq 14, 3) := dk_153 0 14 (dk_at dksX8_soonest_0 7 rfl rfl)
theorem dX8_soonest_10 : decode cX8_soonest 10 = .ok (.iload_n 2, 1) := dk_28 (dk_at dksX8_soonest_0 10 rfl rfl)
theorem dX8_soonest_11 : decode cX8_soonest 11 = .ok (.iconst 0, 1) := dk_3 (dk_at dksX8_soonest_0 11 rfl rfl)
theorem dX8_soonest_12 : decode cX8_soonest 12 = .ok (.sipush 200, 3) := dk_17 0 200 (dk_at dksX8_soonest_0 12 rfl rfl)
theorem dX8_soonest_15 : decode cX8_soonest 15 = .ok (.invokestatic 93, 3) := dk_184 0 93 (dk_at dksX8_soonest_0 15 rfl rfl)
theorem dX8_soonest_18 : decode cX8_soonest 18 = .ok (.ifCond .ne 5, 3) := dk_154 0 5 (dk_at dksX8_soonest_0 18 rfl rfl)
theorem dX8_soonest_21 : decode cX8_soonest 21 = .ok (.iconst (-1), 1) := dk_2 (dk_at dksX8_soonest_0 21 rfl rfl)
theorem dX8_soonest_22 : decode cX8_soonest 22 = .ok (.ireturn, 1) := dk_172 (dk_at dksX8_soonest_0 22 rfl rfl)
theorem dX8_soonest_23 : decode cX8_soonest 23 = .ok (.bipush (-4), 2) := dk_16 252 (dk_at dksX8_soonest_1 0 rfl rfl)
theorem dX8_soonest_25 : decode cX8_soonest 25 = .ok (.istore_n 3, 1) := dk_62 (dk_at dksX8_soonest_1 2 rfl rfl)
theorem dX8_soonest_26 : decode cX8_soonest 26 = .ok (.iconst 0, 1) := dk_3 (dk_at dksX8_soonest_1 3 rfl rfl)
theorem dX8_soonest_27 : decode cX8_soonest 27 = .ok (.istore 4, 2) := dk_54 4 (dk_at dksX8_soonest_1 4 rfl rfl)
theorem dX8_soonest_29 : decode cX8_soonest 29 = .ok (.iload 4, 2) := dk_21 4 (dk_at dksX8_soonest_1 6 rfl rfl)
theorem dX8_soonest_31 : decode cX8_soonest 31 = .ok (.bipush 12, 2) := dk_16 12 (dk_at dksX8_soonest_1 8 rfl rfl)
theorem dX8_soonest_33 : decode cX8_soonest 33 = .ok (.if_icmp .ge 80, 3) := dk_162 0 80 (dk_at dksX8_soonest_1 10 rfl rfl)
theorem dX8_soonest_36 : decode cX8_soonest 36 = .ok (.aload_n 0, 1) := dk_42 (dk_at dksX8_soonest_1 13 rfl rfl)
theorem dX8_soonest_37 : decode cX8_soonest 37 = .ok (.iload 4, 2) := dk_21 4 (dk_at dksX8_soonest_1 14 rfl rfl)
theorem dX8_soonest_39 : decode cX8_soonest 39 = .ok (.invokevirtual 159, 3) := dk_182 0 159 (dk_at dksX8_soonest_1 16 rfl rfl)
theorem dX8_soonest_42 : decode cX8_soonest 42 = .ok (.ifCond .eq 28, 3) := dk_153 0 28 (dk_at dksX8_soonest_1 19 rfl rfl)
theorem dX8_soonest_45 : decode cX8_soonest 45 = .ok (.aload_n 0, 1) := dk_42 (dk_at dksX8_soonest_1 22 rfl rfl)
theorem dX8_soonest_46 : decode cX8_soonest 46 = .ok (.getfield 13, 3) := dk_180 0 13 (dk_at dksX8_soonest_2 0 rfl rfl)
theorem dX8_soonest_49 : decode cX8_soonest 49 = .ok (.iload 4, 2) := dk_21 4 (dk_at dksX8_soonest_2 3 rfl rfl)
theorem dX8_soonest_51 : decode cX8_soonest 51 = .ok (.iaload, 1) := dk_46 (dk_at dksX8_soonest_2 5 rfl rfl)
theorem dX8_soonest_52 : decode cX8_soonest 52 = .ok (.iload_n 1, 1) := dk_27 (dk_at dksX8_soonest_2 6 rfl rfl)
theorem dX8_soonest_53 : decode cX8_soonest 53 = .ok (.if_icmp .lt 17, 3) := dk_161 0 17 (dk_at dksX8_soonest_2 7 rfl rfl)
theorem dX8_soonest_56 : decode cX8_soonest 56 = .ok (.aload_n 0, 1) := dk_42 (dk_at dksX8_soonest_2 10 rfl rfl)
theorem dX8_soonest_57 : decode cX8_soonest 57 = .ok (.iload 4, 2) := dk_21 4 (dk_at dksX8_soonest_2 11 rfl rfl)
theorem dX8_soonest_59 : decode cX8_soonest 59 = .ok (.invokevirtual 146, 3) := dk_182 0 146 (dk_at dksX8_soonest_2 13 rfl rfl)
theorem dX8_soonest_62 : decode cX8_soonest 62 = .ok (.iload_n 2, 1) := dk_28 (dk_at dksX8_soonest_2 16 rfl rfl)
theorem dX8_soonest_63 : decode cX8_soonest 63 = .ok (.if_icmp .gt 7, 3) := dk_163 0 7 (dk_at dksX8_soonest_2 17 rfl rfl)
theorem dX8_soonest_66 : decode cX8_soonest 66 = .ok (.iconst 1, 1) := dk_4 (dk_at dksX8_soonest_2 20 rfl rfl)
theorem dX8_soonest_67 : decode cX8_soonest 67 = .ok (.goto 4, 3) := dk_167 0 4 (dk_at dksX8_soonest_2 21 rfl rfl)
theorem dX8_soonest_70 : decode cX8_soonest 70 = .ok (.iconst 0, 1) := dk_3 (dk_at dksX8_soonest_3 0 rfl rfl)
theorem dX8_soonest_71 : decode cX8_soonest 71 = .ok (.istore 5, 2) := dk_54 5 (dk_at dksX8_soonest_3 1 rfl rfl)
theorem dX8_soonest_73 : decode cX8_soonest 73 = .ok (.iload 5, 2) := dk_21 5 (dk_at dksX8_soonest_3 3 rfl rfl)
theorem dX8_soonest_75 : decode cX8_soonest 75 = .ok (.ifCond .eq 30, 3) := dk_153 0 30 (dk_at dksX8_soonest_3 5 rfl rfl)
theorem dX8_soonest_78 : decode cX8_soonest 78 = .ok (.iload_n 3, 1) := dk_29 (dk_at dksX8_soonest_3 8 rfl rfl)
theorem dX8_soonest_79 : decode cX8_soonest 79 = .ok (.bipush (-4), 2) := dk_16 252 (dk_at dksX8_soonest_3 9 rfl rfl)
theorem dX8_soonest_81 : decode cX8_soonest 81 = .ok (.if_icmp .eq 19, 3) := dk_159 0 19 (dk_at dksX8_soonest_3 11 rfl rfl)
theorem dX8_soonest_84 : decode cX8_soonest 84 = .ok (.aload_n 0, 1) := dk_42 (dk_at dksX8_soonest_3 14 rfl rfl)
theorem dX8_soonest_85 : decode cX8_soonest 85 = .ok (.getfield 13, 3) := dk_180 0 13 (dk_at dksX8_soonest_3 15 rfl rfl)
theorem dX8_soonest_88 : decode cX8_soonest 88 = .ok (.iload 4, 2) := dk_21 4 (dk_at dksX8_soonest_3 18 rfl rfl)
theorem dX8_soonest_90 : decode cX8_soonest 90 = .ok (.iaload, 1) := dk_46 (dk_at dksX8_soonest_3 20 rfl rfl)
theorem dX8_soonest_91 : decode cX8_soonest 91 = .ok (.aload_n 0, 1) := dk_42 (dk_at dksX8_soonest_3 21 rfl rfl)
theorem dX8_soonest_92 : decode cX8_soonest 92 = .ok (.getfield 13, 3) := dk_180 0 13 (dk_at dksX8_soonest_4 0 rfl rfl)
theorem dX8_soonest_95 : decode cX8_soonest 95 = .ok (.iload_n 3, 1) := dk_29 (dk_at dksX8_soonest_4 3 rfl rfl)
theorem dX8_soonest_96 : decode cX8_soonest 96 = .ok (.iaload, 1) := dk_46 (dk_at dksX8_soonest_4 4 rfl rfl)
theorem dX8_soonest_97 : decode cX8_soonest 97 = .ok (.if_icmp .ge 8, 3) := dk_162 0 8 (dk_at dksX8_soonest_4 5 rfl rfl)
theorem dX8_soonest_100 : decode cX8_soonest 100 = .ok (.iload 4, 2) := dk_21 4 (dk_at dksX8_soonest_4 8 rfl rfl)
theorem dX8_soonest_102 : decode cX8_soonest 102 = .ok (.goto 4, 3) := dk_167 0 4 (dk_at dksX8_soonest_4 10 rfl rfl)
theorem dX8_soonest_105 : decode cX8_soonest 105 = .ok (.iload_n 3, 1) := dk_29 (dk_at dksX8_soonest_4 13 rfl rfl)
theorem dX8_soonest_106 : decode cX8_soonest 106 = .ok (.istore_n 3, 1) := dk_62 (dk_at dksX8_soonest_4 14 rfl rfl)
theorem dX8_soonest_107 : decode cX8_soonest 107 = .ok (.iinc 4 1, 3) := dk_132 4 1 (dk_at dksX8_soonest_4 15 rfl rfl)
theorem dX8_soonest_110 : decode cX8_soonest 110 = .ok (.goto (-81), 3) := dk_167 255 175 (dk_at dksX8_soonest_4 18 rfl rfl)
theorem dX8_soonest_113 : decode cX8_soonest 113 = .ok (.iload_n 3, 1) := dk_29 (dk_at dksX8_soonest_4 21 rfl rfl)
theorem dX8_soonest_114 : decode cX8_soonest 114 = .ok (.ireturn, 1) := dk_172 (dk_at dksX8_soonest_4 22 rfl rfl)
abbrev cX8_end : ByteArray := prog_11_method_49_code
def yX8_end : MethodName := ⟨RX8, "end", "(I)I"⟩
def dkwX8_end_1 : List UInt8 := [27, 46, 172]
abbrev dktX8_end_1 : List UInt8 := dkwX8_end_1 ++ []
def dkwX8_end_0 : List UInt8 := [42, 27, 182, 0, 159, 154, 0, 5, 2, 172, 42, 42, 180, 0, 90, 3, 182, 0, 210, 87, 42, 180, 0, 74]
abbrev dktX8_end_0 : List UInt8 := dkwX8_end_0 ++ dktX8_end_1
theorem dksX8_end_0 : cX8_end.data.toList.drop 0 = dktX8_end_0 := by decide +kernel
theorem dksX8_end_1 : cX8_end.data.toList.drop 24 = dktX8_end_1 := dk_seg dksX8_end_0 24 rfl rfl
theorem dX8_end_0 : decode cX8_end 0 = .ok (.aload_n 0, 1) := dk_42 (dk_at dksX8_end_0 0 rfl rfl)
theorem dX8_end_1 : decode cX8_end 1 = .ok (.iload_n 1, 1) := dk_27 (dk_at dksX8_end_0 1 rfl rfl)
theorem dX8_end_2 : decode cX8_end 2 = .ok (.invokevirtual 159, 3) := dk_182 0 159 (dk_at dksX8_end_0 2 rfl rfl)
theorem dX8_end_5 : decode cX8_end 5 = .ok (.ifCond .ne 5, 3) := dk_154 0 5 (dk_at dksX8_end_0 5 rfl rfl)
theorem dX8_end_8 : decode cX8_end 8 = .ok (.iconst (-1), 1) := dk_2 (dk_at dksX8_end_0 8 rfl rfl)
theorem dX8_end_9 : decode cX8_end 9 = .ok (.ireturn, 1) := dk_172 (dk_at dksX8_end_0 9 rfl rfl)
theorem dX8_end_10 : decode cX8_end 10 = .ok (.aload_n 0, 1) := dk_42 (dk_at dksX8_end_0 10 rfl rfl)
theorem dX8_end_11 : decode cX8_end 11 = .ok (.aload_n 0, 1) := dk_42 (dk_at dksX8_end_0 11 rfl rfl)
theorem dX8_end_12 : decode cX8_end 12 = .ok (.getfield 90, 3) := dk_180 0 90 (dk_at dksX8_end_0 12 rfl rfl)
theorem dX8_end_15 : decode cX8_end 15 = .ok (.iconst 0, 1) := dk_3 (dk_at dksX8_end_0 15 rfl rfl)
theorem dX8_end_16 : decode cX8_end 16 = .ok (.invokevirtual 210, 3) := dk_182 0 210 (dk_at dksX8_end_0 16 rfl rfl)
theorem dX8_end_19 : decode cX8_end 19 = .ok (.pop, 1) := dk_87 (dk_at dksX8_end_0 19 rfl rfl)
theorem dX8_end_20 : decode cX8_end 20 = .ok (.aload_n 0, 1) := dk_42 (dk_at dksX8_end_0 20 rfl rfl)
theorem dX8_end_21 : decode cX8_end 21 = .ok (.getfield 74, 3) := dk_180 0 74 (dk_at dksX8_end_0 21 rfl rfl)
theorem dX8_end_24 : decode cX8_end 24 = .ok (.iload_n 1, 1) := dk_27 (dk_at dksX8_end_1 0 rfl rfl)
theorem dX8_end_25 : decode cX8_end 25 = .ok (.iaload, 1) := dk_46 (dk_at dksX8_end_1 1 rfl rfl)
theorem dX8_end_26 : decode cX8_end 26 = .ok (.ireturn, 1) := dk_172 (dk_at dksX8_end_1 2 rfl rfl)
abbrev cX8_does : ByteArray := prog_11_method_47_code
def yX8_does : MethodName := ⟨RX8, "does", "(II)I"⟩
def dkwX8_does_10 : List UInt8 := [21, 5, 172]
abbrev dktX8_does_10 : List UInt8 := dkwX8_does_10 ++ []
def dkwX8_does_9 : List UInt8 := [4, 21, 6, 120, 167, 0, 4, 3, 128, 54, 5, 29, 4, 21, 6, 120, 2, 130, 126, 62, 167, 255, 37]
abbrev dktX8_does_9 : List UInt8 := dkwX8_does_9 ++ dktX8_does_10
def dkwX8_does_8 : List UInt8 := [180, 0, 74, 21, 6, 21, 4, 79, 21, 5, 21, 4, 42, 180, 0, 16, 21, 6, 46, 28, 96, 164, 0, 10]
abbrev dktX8_does_8 : List UInt8 := dkwX8_does_8 ++ dktX8_does_9
def dkwX8_does_7 : List UInt8 := [160, 0, 10, 21, 7, 54, 4, 167, 0, 60, 21, 4, 42, 180, 0, 19, 21, 6, 46, 96, 54, 4, 42]
abbrev dktX8_does_7 : List UInt8 := dkwX8_does_7 ++ dktX8_does_8
def dkwX8_does_6 : List UInt8 := [180, 0, 13, 21, 8, 46, 167, 0, 5, 21, 7, 54, 7, 132, 8, 1, 167, 255, 126, 21, 6, 16, 252]
abbrev dktX8_does_6 : List UInt8 := dkwX8_does_6 ++ dktX8_does_7
def dkwX8_does_5 : List UInt8 := [21, 8, 167, 0, 5, 21, 6, 54, 6, 42, 180, 0, 13, 21, 8, 46, 21, 7, 162, 0, 13, 42]
abbrev dktX8_does_5 : List UInt8 := dkwX8_does_5 ++ dktX8_does_6
def dkwX8_does_4 : List UInt8 := [182, 0, 101, 162, 0, 7, 4, 167, 0, 4, 3, 54, 10, 21, 9, 153, 0, 13, 21, 10, 153, 0, 8]
abbrev dktX8_does_4 : List UInt8 := dkwX8_does_4 ++ dktX8_does_5
def dkwX8_does_3 : List UInt8 := [180, 0, 16, 21, 8, 46, 28, 96, 182, 0, 101, 42, 21, 6, 42, 180, 0, 16, 21, 6, 46, 28, 96]
abbrev dktX8_does_3 : List UInt8 := dkwX8_does_3 ++ dktX8_does_4
def dkwX8_does_2 : List UInt8 := [21, 4, 163, 0, 7, 4, 167, 0, 4, 3, 54, 9, 21, 6, 16, 252, 159, 0, 36, 42, 21, 8, 42]
abbrev dktX8_does_2 : List UInt8 := dkwX8_does_2 ++ dktX8_does_3
def dkwX8_does_1 : List UInt8 := [21, 8, 16, 12, 162, 0, 129, 29, 21, 8, 184, 0, 97, 153, 0, 114, 42, 180, 0, 13, 21, 8, 46]
abbrev dktX8_does_1 : List UInt8 := dkwX8_does_1 ++ dktX8_does_2
def dkwX8_does_0 : List UInt8 := [27, 62, 3, 54, 4, 3, 54, 5, 29, 153, 0, 221, 16, 252, 54, 6, 18, 209, 54, 7, 3, 54, 8]
abbrev dktX8_does_0 : List UInt8 := dkwX8_does_0 ++ dktX8_does_1
theorem dksX8_does_0 : cX8_does.data.toList.drop 0 = dktX8_does_0 := by decide +kernel
theorem dksX8_does_1 : cX8_does.data.toList.drop 23 = dktX8_does_1 := dk_seg dksX8_does_0 23 rfl rfl
theorem dksX8_does_2 : cX8_does.data.toList.drop 46 = dktX8_does_2 := dk_seg dksX8_does_1 23 rfl rfl
theorem dksX8_does_3 : cX8_does.data.toList.drop 69 = dktX8_does_3 := dk_seg dksX8_does_2 23 rfl rfl
theorem dksX8_does_4 : cX8_does.data.toList.drop 92 = dktX8_does_4 := dk_seg dksX8_does_3 23 rfl rfl
theorem dksX8_does_5 : cX8_does.data.toList.drop 115 = dktX8_does_5 := dk_seg dksX8_does_4 23 rfl rfl
theorem dksX8_does_6 : cX8_does.data.toList.drop 137 = dktX8_does_6 := dk_seg dksX8_does_5 22 rfl rfl
theorem dksX8_does_7 : cX8_does.data.toList.drop 160 = dktX8_does_7 := dk_seg dksX8_does_6 23 rfl rfl
theorem dksX8_does_8 : cX8_does.data.toList.drop 183 = dktX8_does_8 := dk_seg dksX8_does_7 23 rfl rfl
theorem dksX8_does_9 : cX8_does.data.toList.drop 207 = dktX8_does_9 := dk_seg dksX8_does_8 24 rfl rfl
theorem dksX8_does_10 : cX8_does.data.toList.drop 230 = dktX8_does_10 := dk_seg dksX8_does_9 23 rfl rfl
theorem dX8_does_0 : decode cX8_does 0 = .ok (.iload_n 1, 1) := dk_27 (dk_at dksX8_does_0 0 rfl rfl)
theorem dX8_does_1 : decode cX8_does 1 = .ok (.istore_n 3, 1) := dk_62 (dk_at dksX8_does_0 1 rfl rfl)
theorem dX8_does_2 : decode cX8_does 2 = .ok (.iconst 0, 1) := dk_3 (dk_at dksX8_does_0 2 rfl rfl)
theorem dX8_does_3 : decode cX8_does 3 = .ok (.istore 4, 2) := dk_54 4 (dk_at dksX8_does_0 3 rfl rfl)
theorem dX8_does_5 : decode cX8_does 5 = .ok (.iconst 0, 1) := dk_3 (dk_at dksX8_does_0 5 rfl rfl)
theorem dX8_does_6 : decode cX8_does 6 = .ok (.istore 5, 2) := dk_54 5 (dk_at dksX8_does_0 6 rfl rfl)
theorem dX8_does_8 : decode cX8_does 8 = .ok (.iload_n 3, 1) := dk_29 (dk_at dksX8_does_0 8 rfl rfl)
theorem dX8_does_9 : decode cX8_does 9 = .ok (.ifCond .eq 221, 3) := dk_153 0 221 (dk_at dksX8_does_0 9 rfl rfl)
theorem dX8_does_12 : decode cX8_does 12 = .ok (.bipush (-4), 2) := dk_16 252 (dk_at dksX8_does_0 12 rfl rfl)
theorem dX8_does_14 : decode cX8_does 14 = .ok (.istore 6, 2) := dk_54 6 (dk_at dksX8_does_0 14 rfl rfl)
theorem dX8_does_16 : decode cX8_does 16 = .ok (.ldc 209, 2) := dk_18 209 (dk_at dksX8_does_0 16 rfl rfl)
theorem dX8_does_18 : decode cX8_does 18 = .ok (.istore 7, 2) := dk_54 7 (dk_at dksX8_does_0 18 rfl rfl)
theorem dX8_does_20 : decode cX8_does 20 = .ok (.iconst 0, 1) := dk_3 (dk_at dksX8_does_0 20 rfl rfl)
theorem dX8_does_21 : decode cX8_does 21 = .ok (.istore 8, 2) := dk_54 8 (dk_at dksX8_does_0 21 rfl rfl)
theorem dX8_does_23 : decode cX8_does 23 = .ok (.iload 8, 2) := dk_21 8 (dk_at dksX8_does_1 0 rfl rfl)
theorem dX8_does_25 : decode cX8_does 25 = .ok (.bipush 12, 2) := dk_16 12 (dk_at dksX8_does_1 2 rfl rfl)
theorem dX8_does_27 : decode cX8_does 27 = .ok (.if_icmp .ge 129, 3) := dk_162 0 129 (dk_at dksX8_does_1 4 rfl rfl)
theorem dX8_does_30 : decode cX8_does 30 = .ok (.iload_n 3, 1) := dk_29 (dk_at dksX8_does_1 7 rfl rfl)
theorem dX8_does_31 : decode cX8_does 31 = .ok (.iload 8, 2) := dk_21 8 (dk_at dksX8_does_1 8 rfl rfl)
theorem dX8_does_33 : decode cX8_does 33 = .ok (.invokestatic 97, 3) := dk_184 0 97 (dk_at dksX8_does_1 10 rfl rfl)
theorem dX8_does_36 : decode cX8_does 36 = .ok (.ifCond .eq 114, 3) := dk_153 0 114 (dk_at dksX8_does_1 13 rfl rfl)
theorem dX8_does_39 : decode cX8_does 39 = .ok (.aload_n 0, 1) := dk_42 (dk_at dksX8_does_1 16 rfl rfl)
theorem dX8_does_40 : decode cX8_does 40 = .ok (.getfield 13, 3) := dk_180 0 13 (dk_at dksX8_does_1 17 rfl rfl)
theorem dX8_does_43 : decode cX8_does 43 = .ok (.iload 8, 2) := dk_21 8 (dk_at dksX8_does_1 20 rfl rfl)
theorem dX8_does_45 : decode cX8_does 45 = .ok (.iaload, 1) := dk_46 (dk_at dksX8_does_1 22 rfl rfl)
theorem dX8_does_46 : decode cX8_does 46 = .ok (.iload 4, 2) := dk_21 4 (dk_at dksX8_does_2 0 rfl rfl)
theorem dX8_does_48 : decode cX8_does 48 = .ok (.if_icmp .gt 7, 3) := dk_163 0 7 (dk_at dksX8_does_2 2 rfl rfl)
theorem dX8_does_51 : decode cX8_does 51 = .ok (.iconst 1, 1) := dk_4 (dk_at dksX8_does_2 5 rfl rfl)
theorem dX8_does_52 : decode cX8_does 52 = .ok (.goto 4, 3) := dk_167 0 4 (dk_at dksX8_does_2 6 rfl rfl)
theorem dX8_does_55 : decode cX8_does 55 = .ok (.iconst 0, 1) := dk_3 (dk_at dksX8_does_2 9 rfl rfl)
theorem dX8_does_56 : decode cX8_does 56 = .ok (.istore 9, 2) := dk_54 9 (dk_at dksX8_does_2 10 rfl rfl)
theorem dX8_does_58 : decode cX8_does 58 = .ok (.iload 6, 2) := dk_21 6 (dk_at dksX8_does_2 12 rfl rfl)
theorem dX8_does_60 : decode cX8_does 60 = .ok (.bipush (-4), 2) := dk_16 252 (dk_at dksX8_does_2 14 rfl rfl)
theorem dX8_does_62 : decode cX8_does 62 = .ok (.if_icmp .eq 36, 3) := dk_159 0 36 (dk_at dksX8_does_2 16 rfl rfl)
theorem dX8_does_65 : decode cX8_does 65 = .ok (.aload_n 0, 1) := dk_42 (dk_at dksX8_does_2 19 rfl rfl)
theorem dX8_does_66 : decode cX8_does 66 = .ok (.iload 8, 2) := dk_21 8 (dk_at dksX8_does_2 20 rfl rfl)
theorem dX8_does_68 : decode cX8_does 68 = .ok (.aload_n 0, 1) := dk_42 (dk_at dksX8_does_2 22 rfl rfl)
theorem dX8_does_69 : decode cX8_does 69 = .ok (.getfield 16, 3) := dk_180 0 16 (dk_at dksX8_does_3 0 rfl rfl)
theorem dX8_does_72 : decode cX8_does 72 = .ok (.iload 8, 2) := dk_21 8 (dk_at dksX8_does_3 3 rfl rfl)
theorem dX8_does_74 : decode cX8_does 74 = .ok (.iaload, 1) := dk_46 (dk_at dksX8_does_3 5 rfl rfl)
theorem dX8_does_75 : decode cX8_does 75 = .ok (.iload_n 2, 1) := dk_28 (dk_at dksX8_does_3 6 rfl rfl)
theorem dX8_does_76 : decode cX8_does 76 = .ok (.iadd, 1) := dk_96 (dk_at dksX8_does_3 7 rfl rfl)
theorem dX8_does_77 : decode cX8_does 77 = .ok (.invokevirtual 101, 3) := dk_182 0 101 (dk_at dksX8_does_3 8 rfl rfl)
theorem dX8_does_80 : decode cX8_does 80 = .ok (.aload_n 0, 1) := dk_42 (dk_at dksX8_does_3 11 rfl rfl)
theorem dX8_does_81 : decode cX8_does 81 = .ok (.iload 6, 2) := dk_21 6 (dk_at dksX8_does_3 12 rfl rfl)
theorem dX8_does_83 : decode cX8_does 83 = .ok (.aload_n 0, 1) := dk_42 (dk_at dksX8_does_3 14 rfl rfl)
theorem dX8_does_84 : decode cX8_does 84 = .ok (.getfield 16, 3) := dk_180 0 16 (dk_at dksX8_does_3 15 rfl rfl)
theorem dX8_does_87 : decode cX8_does 87 = .ok (.iload 6, 2) := dk_21 6 (dk_at dksX8_does_3 18 rfl rfl)
theorem dX8_does_89 : decode cX8_does 89 = .ok (.iaload, 1) := dk_46 (dk_at dksX8_does_3 20 rfl rfl)
theorem dX8_does_90 : decode cX8_does 90 = .ok (.iload_n 2, 1) := dk_28 (dk_at dksX8_does_3 21 rfl rfl)
theorem dX8_does_91 : decode cX8_does 91 = .ok (.iadd, 1) := dk_96 (dk_at dksX8_does_3 22 rfl rfl)
theorem dX8_does_92 : decode cX8_does 92 = .ok (.invokevirtual 101, 3) := dk_182 0 101 (dk_at dksX8_does_4 0 rfl rfl)
theorem dX8_does_95 : decode cX8_does 95 = .ok (.if_icmp .ge 7, 3) := dk_162 0 7 (dk_at dksX8_does_4 3 rfl rfl)
theorem dX8_does_98 : decode cX8_does 98 = .ok (.iconst 1, 1) := dk_4 (dk_at dksX8_does_4 6 rfl rfl)
theorem dX8_does_99 : decode cX8_does 99 = .ok (.goto 4, 3) := dk_167 0 4 (dk_at dksX8_does_4 7 rfl rfl)
theorem dX8_does_102 : decode cX8_does 102 = .ok (.iconst 0, 1) := dk_3 (dk_at dksX8_does_4 10 rfl rfl)
theorem dX8_does_103 : decode cX8_does 103 = .ok (.istore 10, 2) := dk_54 10 (dk_at dksX8_does_4 11 rfl rfl)
theorem dX8_does_105 : decode cX8_does 105 = .ok (.iload 9, 2) := dk_21 9 (dk_at dksX8_does_4 13 rfl rfl)
theorem dX8_does_107 : decode cX8_does 107 = .ok (.ifCond .eq 13, 3) := dk_153 0 13 (dk_at dksX8_does_4 15 rfl rfl)
theorem dX8_does_110 : decode cX8_does 110 = .ok (.iload 10, 2) := dk_21 10 (dk_at dksX8_does_4 18 rfl rfl)
theorem dX8_does_112 : decode cX8_does 112 = .ok (.ifCond .eq 8, 3) := dk_153 0 8 (dk_at dksX8_does_4 20 rfl rfl)
theorem dX8_does_115 : decode cX8_does 115 = .ok (.iload 8, 2) := dk_21 8 (dk_at dksX8_does_5 0 rfl rfl)
theorem dX8_does_117 : decode cX8_does 117 = .ok (.goto 5, 3) := dk_167 0 5 (dk_at dksX8_does_5 2 rfl rfl)
theorem dX8_does_120 : decode cX8_does 120 = .ok (.iload 6, 2) := dk_21 6 (dk_at dksX8_does_5 5 rfl rfl)
theorem dX8_does_122 : decode cX8_does 122 = .ok (.istore 6, 2) := dk_54 6 (dk_at dksX8_does_5 7 rfl rfl)
theorem dX8_does_124 : decode cX8_does 124 = .ok (.aload_n 0, 1) := dk_42 (dk_at dksX8_does_5 9 rfl rfl)
theorem dX8_does_125 : decode cX8_does 125 = .ok (.getfield 13, 3) := dk_180 0 13 (dk_at dksX8_does_5 10 rfl rfl)
theorem dX8_does_128 : decode cX8_does 128 = .ok (.iload 8, 2) := dk_21 8 (dk_at dksX8_does_5 13 rfl rfl)
theorem dX8_does_130 : decode cX8_does 130 = .ok (.iaload, 1) := dk_46 (dk_at dksX8_does_5 15 rfl rfl)
theorem dX8_does_131 : decode cX8_does 131 = .ok (.iload 7, 2) := dk_21 7 (dk_at dksX8_does_5 16 rfl rfl)
theorem dX8_does_133 : decode cX8_does 133 = .ok (.if_icmp .ge 13, 3) := dk_162 0 13 (dk_at dksX8_does_5 18 rfl rfl)
theorem dX8_does_136 : decode cX8_does 136 = .ok (.aload_n 0, 1) := dk_42 (dk_at dksX8_does_5 21 rfl rfl)
theorem dX8_does_137 : decode cX8_does 137 = .ok (.getfield 13, 3) := dk_180 0 13 (dk_at dksX8_does_6 0 rfl rfl)
theorem dX8_does_140 : decode cX8_does 140 = .ok (.iload 8, 2) := dk_21 8 (dk_at dksX8_does_6 3 rfl rfl)
theorem dX8_does_142 : decode cX8_does 142 = .ok (.iaload, 1) := dk_46 (dk_at dksX8_does_6 5 rfl rfl)
theorem dX8_does_143 : decode cX8_does 143 = .ok (.goto 5, 3) := dk_167 0 5 (dk_at dksX8_does_6 6 rfl rfl)
theorem dX8_does_146 : decode cX8_does 146 = .ok (.iload 7, 2) := dk_21 7 (dk_at dksX8_does_6 9 rfl rfl)
theorem dX8_does_148 : decode cX8_does 148 = .ok (.istore 7, 2) := dk_54 7 (dk_at dksX8_does_6 11 rfl rfl)
theorem dX8_does_150 : decode cX8_does 150 = .ok (.iinc 8 1, 3) := dk_132 8 1 (dk_at dksX8_does_6 13 rfl rfl)
theorem dX8_does_153 : decode cX8_does 153 = .ok (.goto (-130), 3) := dk_167 255 126 (dk_at dksX8_does_6 16 rfl rfl)
theorem dX8_does_156 : decode cX8_does 156 = .ok (.iload 6, 2) := dk_21 6 (dk_at dksX8_does_6 19 rfl rfl)
theorem dX8_does_158 : decode cX8_does 158 = .ok (.bipush (-4), 2) := dk_16 252 (dk_at dksX8_does_6 21 rfl rfl)
theorem dX8_does_160 : decode cX8_does 160 = .ok (.if_icmp .ne 10, 3) := dk_160 0 10 (dk_at dksX8_does_7 0 rfl rfl)
theorem dX8_does_163 : decode cX8_does 163 = .ok (.iload 7, 2) := dk_21 7 (dk_at dksX8_does_7 3 rfl rfl)
theorem dX8_does_165 : decode cX8_does 165 = .ok (.istore 4, 2) := dk_54 4 (dk_at dksX8_does_7 5 rfl rfl)
theorem dX8_does_167 : decode cX8_does 167 = .ok (.goto 60, 3) := dk_167 0 60 (dk_at dksX8_does_7 7 rfl rfl)
theorem dX8_does_170 : decode cX8_does 170 = .ok (.iload 4, 2) := dk_21 4 (dk_at dksX8_does_7 10 rfl rfl)
theorem dX8_does_172 : decode cX8_does 172 = .ok (.aload_n 0, 1) := dk_42 (dk_at dksX8_does_7 12 rfl rfl)
theorem dX8_does_173 : decode cX8_does 173 = .ok (.getfield 19, 3) := dk_180 0 19 (dk_at dksX8_does_7 13 rfl rfl)
theorem dX8_does_176 : decode cX8_does 176 = .ok (.iload 6, 2) := dk_21 6 (dk_at dksX8_does_7 16 rfl rfl)
theorem dX8_does_178 : decode cX8_does 178 = .ok (.iaload, 1) := dk_46 (dk_at dksX8_does_7 18 rfl rfl)
theorem dX8_does_179 : decode cX8_does 179 = .ok (.iadd, 1) := dk_96 (dk_at dksX8_does_7 19 rfl rfl)
theorem dX8_does_180 : decode cX8_does 180 = .ok (.istore 4, 2) := dk_54 4 (dk_at dksX8_does_7 20 rfl rfl)
theorem dX8_does_182 : decode cX8_does 182 = .ok (.aload_n 0, 1) := dk_42 (dk_at dksX8_does_7 22 rfl rfl)
theorem dX8_does_183 : decode cX8_does 183 = .ok (.getfield 74, 3) := dk_180 0 74 (dk_at dksX8_does_8 0 rfl rfl)
theorem dX8_does_186 : decode cX8_does 186 = .ok (.iload 6, 2) := dk_21 6 (dk_at dksX8_does_8 3 rfl rfl)
theorem dX8_does_188 : decode cX8_does 188 = .ok (.iload 4, 2) := dk_21 4 (dk_at dksX8_does_8 5 rfl rfl)
theorem dX8_does_190 : decode cX8_does 190 = .ok (.iastore, 1) := dk_79 (dk_at dksX8_does_8 7 rfl rfl)
theorem dX8_does_191 : decode cX8_does 191 = .ok (.iload 5, 2) := dk_21 5 (dk_at dksX8_does_8 8 rfl rfl)
theorem dX8_does_193 : decode cX8_does 193 = .ok (.iload 4, 2) := dk_21 4 (dk_at dksX8_does_8 10 rfl rfl)
theorem dX8_does_195 : decode cX8_does 195 = .ok (.aload_n 0, 1) := dk_42 (dk_at dksX8_does_8 12 rfl rfl)
theorem dX8_does_196 : decode cX8_does 196 = .ok (.getfield 16, 3) := dk_180 0 16 (dk_at dksX8_does_8 13 rfl rfl)
theorem dX8_does_199 : decode cX8_does 199 = .ok (.iload 6, 2) := dk_21 6 (dk_at dksX8_does_8 16 rfl rfl)
theorem dX8_does_201 : decode cX8_does 201 = .ok (.iaload, 1) := dk_46 (dk_at dksX8_does_8 18 rfl rfl)
theorem dX8_does_202 : decode cX8_does 202 = .ok (.iload_n 2, 1) := dk_28 (dk_at dksX8_does_8 19 rfl rfl)
theorem dX8_does_203 : decode cX8_does 203 = .ok (.iadd, 1) := dk_96 (dk_at dksX8_does_8 20 rfl rfl)
theorem dX8_does_204 : decode cX8_does 204 = .ok (.if_icmp .le 10, 3) := dk_164 0 10 (dk_at dksX8_does_8 21 rfl rfl)
theorem dX8_does_207 : decode cX8_does 207 = .ok (.iconst 1, 1) := dk_4 (dk_at dksX8_does_9 0 rfl rfl)
theorem dX8_does_208 : decode cX8_does 208 = .ok (.iload 6, 2) := dk_21 6 (dk_at dksX8_does_9 1 rfl rfl)
theorem dX8_does_210 : decode cX8_does 210 = .ok (.ishl, 1) := dk_120 (dk_at dksX8_does_9 3 rfl rfl)
theorem dX8_does_211 : decode cX8_does 211 = .ok (.goto 4, 3) := dk_167 0 4 (dk_at dksX8_does_9 4 rfl rfl)
theorem dX8_does_214 : decode cX8_does 214 = .ok (.iconst 0, 1) := dk_3 (dk_at dksX8_does_9 7 rfl rfl)
theorem dX8_does_215 : decode cX8_does 215 = .ok (.ior, 1) := dk_128 (dk_at dksX8_does_9 8 rfl rfl)
theorem dX8_does_216 : decode cX8_does 216 = .ok (.istore 5, 2) := dk_54 5 (dk_at dksX8_does_9 9 rfl rfl)
theorem dX8_does_218 : decode cX8_does 218 = .ok (.iload_n 3, 1) := dk_29 (dk_at dksX8_does_9 11 rfl rfl)
theorem dX8_does_219 : decode cX8_does 219 = .ok (.iconst 1, 1) := dk_4 (dk_at dksX8_does_9 12 rfl rfl)
theorem dX8_does_220 : decode cX8_does 220 = .ok (.iload 6, 2) := dk_21 6 (dk_at dksX8_does_9 13 rfl rfl)
theorem dX8_does_222 : decode cX8_does 222 = .ok (.ishl, 1) := dk_120 (dk_at dksX8_does_9 15 rfl rfl)
theorem dX8_does_223 : decode cX8_does 223 = .ok (.iconst (-1), 1) := dk_2 (dk_at dksX8_does_9 16 rfl rfl)
theorem dX8_does_224 : decode cX8_does 224 = .ok (.ixor, 1) := dk_130 (dk_at dksX8_does_9 17 rfl rfl)
theorem dX8_does_225 : decode cX8_does 225 = .ok (.iand, 1) := dk_126 (dk_at dksX8_does_9 18 rfl rfl)
theorem dX8_does_226 : decode cX8_does 226 = .ok (.istore_n 3, 1) := dk_62 (dk_at dksX8_does_9 19 rfl rfl)
theorem dX8_does_227 : decode cX8_does 227 = .ok (.goto (-219), 3) := dk_167 255 37 (dk_at dksX8_does_9 20 rfl rfl)
theorem dX8_does_230 : decode cX8_does 230 = .ok (.iload 5, 2) := dk_21 5 (dk_at dksX8_does_10 0 rfl rfl)
theorem dX8_does_232 : decode cX8_does 232 = .ok (.ireturn, 1) := dk_172 (dk_at dksX8_does_10 2 rfl rfl)
abbrev cX8_late : ByteArray := prog_11_method_50_code
def yX8_late : MethodName := ⟨RX8, "late", "()I"⟩
def dkwX8_late_0 : List UInt8 := [42, 42, 180, 0, 90, 3, 182, 0, 210, 172]
abbrev dktX8_late_0 : List UInt8 := dkwX8_late_0 ++ []
theorem dksX8_late_0 : cX8_late.data.toList.drop 0 = dktX8_late_0 := by decide +kernel
theorem dX8_late_0 : decode cX8_late 0 = .ok (.aload_n 0, 1) := dk_42 (dk_at dksX8_late_0 0 rfl rfl)
theorem dX8_late_1 : decode cX8_late 1 = .ok (.aload_n 0, 1) := dk_42 (dk_at dksX8_late_0 1 rfl rfl)
theorem dX8_late_2 : decode cX8_late 2 = .ok (.getfield 90, 3) := dk_180 0 90 (dk_at dksX8_late_0 2 rfl rfl)
theorem dX8_late_5 : decode cX8_late 5 = .ok (.iconst 0, 1) := dk_3 (dk_at dksX8_late_0 5 rfl rfl)
theorem dX8_late_6 : decode cX8_late 6 = .ok (.invokevirtual 210, 3) := dk_182 0 210 (dk_at dksX8_late_0 6 rfl rfl)
theorem dX8_late_9 : decode cX8_late 9 = .ok (.ireturn, 1) := dk_172 (dk_at dksX8_late_0 9 rfl rfl)
abbrev cX8_drop : ByteArray := prog_11_method_51_code
def yX8_drop : MethodName := ⟨RX8, "drop", "(I)I"⟩
def dkwX8_drop_4 : List UInt8 := [167, 0, 4, 29, 62, 132, 4, 1, 167, 255, 185, 27, 154, 0, 7, 28, 167, 0, 4, 29, 172]
abbrev dktX8_drop_4 : List UInt8 := dkwX8_drop_4 ++ []
def dkwX8_drop_3 : List UInt8 := [54, 5, 21, 5, 29, 162, 0, 8, 21, 4, 167, 0, 4, 28, 61, 21, 5, 29, 162, 0, 8, 21, 5]
abbrev dktX8_drop_3 : List UInt8 := dkwX8_drop_3 ++ dktX8_drop_4
def dkwX8_drop_2 : List UInt8 := [42, 180, 0, 90, 4, 21, 4, 120, 2, 130, 126, 3, 182, 0, 210, 184, 0, 213, 167, 0, 5, 18, 209]
abbrev dktX8_drop_2 : List UInt8 := dkwX8_drop_2 ++ dktX8_drop_3
def dkwX8_drop_1 : List UInt8 := [61, 18, 209, 62, 3, 54, 4, 21, 4, 16, 12, 162, 0, 70, 42, 21, 4, 182, 0, 159, 153, 0, 25, 42]
abbrev dktX8_drop_1 : List UInt8 := dkwX8_drop_1 ++ dktX8_drop_2
def dkwX8_drop_0 : List UInt8 := [27, 3, 4, 184, 0, 93, 154, 0, 5, 2, 172, 42, 182, 0, 181, 4, 160, 0, 6, 16, 254, 172, 16, 252]
abbrev dktX8_drop_0 : List UInt8 := dkwX8_drop_0 ++ dktX8_drop_1
theorem dksX8_drop_0 : cX8_drop.data.toList.drop 0 = dktX8_drop_0 := by decide +kernel
theorem dksX8_drop_1 : cX8_drop.data.toList.drop 24 = dktX8_drop_1 := dk_seg dksX8_drop_0 24 rfl rfl
theorem dksX8_drop_2 : cX8_drop.data.toList.drop 48 = dktX8_drop_2 := dk_seg dksX8_drop_1 24 rfl rfl
theorem dksX8_drop_3 : cX8_drop.data.toList.drop 71 = dktX8_drop_3 := dk_seg dksX8_drop_2 23 rfl rfl
theorem dksX8_drop_4 : cX8_drop.data.toList.drop 94 = dktX8_drop_4 := dk_seg dksX8_drop_3 23 rfl rfl
theorem dX8_drop_0 : decode cX8_drop 0 = .ok (.iload_n 1, 1) := dk_27 (dk_at dksX8_drop_0 0 rfl rfl)
theorem dX8_drop_1 : decode cX8_drop 1 = .ok (.iconst 0, 1) := dk_3 (dk_at dksX8_drop_0 1 rfl rfl)
theorem dX8_drop_2 : decode cX8_drop 2 = .ok (.iconst 1, 1) := dk_4 (dk_at dksX8_drop_0 2 rfl rfl)
theorem dX8_drop_3 : decode cX8_drop 3 = .ok (.invokestatic 93, 3) := dk_184 0 93 (dk_at dksX8_drop_0 3 rfl rfl)
theorem dX8_drop_6 : decode cX8_drop 6 = .ok (.ifCond .ne 5, 3) := dk_154 0 5 (dk_at dksX8_drop_0 6 rfl rfl)
theorem dX8_drop_9 : decode cX8_drop 9 = .ok (.iconst (-1), 1) := dk_2 (dk_at dksX8_drop_0 9 rfl rfl)
theorem dX8_drop_10 : decode cX8_drop 10 = .ok (.ireturn, 1) := dk_172 (dk_at dksX8_drop_0 10 rfl rfl)
theorem dX8_drop_11 : decode cX8_drop 11 = .ok (.aload_n 0, 1) := dk_42 (dk_at dksX8_drop_0 11 rfl rfl)
theorem dX8_drop_12 : decode cX8_drop 12 = .ok (.invokevirtual 181, 3) := dk_182 0 181 (dk_at dksX8_drop_0 12 rfl rfl)
theorem dX8_drop_15 : decode cX8_drop 15 = .ok (.iconst 1, 1) := dk_4 (dk_at dksX8_drop_0 15 rfl rfl)
theorem dX8_drop_16 : decode cX8_drop 16 = .ok (.if_icmp .ne 6, 3) := dk_160 0 6 (dk_at dksX8_drop_0 16 rfl rfl)
theorem dX8_drop_19 : decode cX8_drop 19 = .ok (.bipush (-2), 2) := dk_16 254 (dk_at dksX8_drop_0 19 rfl rfl)
theorem dX8_drop_21 : decode cX8_drop 21 = .ok (.ireturn, 1) := dk_172 (dk_at dksX8_drop_0 21 rfl rfl)
theorem dX8_drop_22 : decode cX8_drop 22 = .ok (.bipush (-4), 2) := dk_16 252 (dk_at dksX8_drop_0 22 rfl rfl)
theorem dX8_drop_24 : decode cX8_drop 24 = .ok (.istore_n 2, 1) := dk_61 (dk_at dksX8_drop_1 0 rfl rfl)
theorem dX8_drop_25 : decode cX8_drop 25 = .ok (.ldc 209, 2) := dk_18 209 (dk_at dksX8_drop_1 1 rfl rfl)
theorem dX8_drop_27 : decode cX8_drop 27 = .ok (.istore_n 3, 1) := dk_62 (dk_at dksX8_drop_1 3 rfl rfl)
theorem dX8_drop_28 : decode cX8_drop 28 = .ok (.iconst 0, 1) := dk_3 (dk_at dksX8_drop_1 4 rfl rfl)
theorem dX8_drop_29 : decode cX8_drop 29 = .ok (.istore 4, 2) := dk_54 4 (dk_at dksX8_drop_1 5 rfl rfl)
theorem dX8_drop_31 : decode cX8_drop 31 = .ok (.iload 4, 2) := dk_21 4 (dk_at dksX8_drop_1 7 rfl rfl)
theorem dX8_drop_33 : decode cX8_drop 33 = .ok (.bipush 12, 2) := dk_16 12 (dk_at dksX8_drop_1 9 rfl rfl)
theorem dX8_drop_35 : decode cX8_drop 35 = .ok (.if_icmp .ge 70, 3) := dk_162 0 70 (dk_at dksX8_drop_1 11 rfl rfl)
theorem dX8_drop_38 : decode cX8_drop 38 = .ok (.aload_n 0, 1) := dk_42 (dk_at dksX8_drop_1 14 rfl rfl)
theorem dX8_drop_39 : decode cX8_drop 39 = .ok (.iload 4, 2) := dk_21 4 (dk_at dksX8_drop_1 15 rfl rfl)
theorem dX8_drop_41 : decode cX8_drop 41 = .ok (.invokevirtual 159, 3) := dk_182 0 159 (dk_at dksX8_drop_1 17 rfl rfl)
theorem dX8_drop_44 : decode cX8_drop 44 = .ok (.ifCond .eq 25, 3) := dk_153 0 25 (dk_at dksX8_drop_1 20 rfl rfl)
theorem dX8_drop_47 : decode cX8_drop 47 = .ok (.aload_n 0, 1) := dk_42 (dk_at dksX8_drop_1 23 rfl rfl)
theorem dX8_drop_48 : decode cX8_drop 48 = .ok (.aload_n 0, 1) := dk_42 (dk_at dksX8_drop_2 0 rfl rfl)
theorem dX8_drop_49 : decode cX8_drop 49 = .ok (.getfield 90, 3) := dk_180 0 90 (dk_at dksX8_drop_2 1 rfl rfl)
theorem dX8_drop_52 : decode cX8_drop 52 = .ok (.iconst 1, 1) := dk_4 (dk_at dksX8_drop_2 4 rfl rfl)
theorem dX8_drop_53 : decode cX8_drop 53 = .ok (.iload 4, 2) := dk_21 4 (dk_at dksX8_drop_2 5 rfl rfl)
theorem dX8_drop_55 : decode cX8_drop 55 = .ok (.ishl, 1) := dk_120 (dk_at dksX8_drop_2 7 rfl rfl)
theorem dX8_drop_56 : decode cX8_drop 56 = .ok (.iconst (-1), 1) := dk_2 (dk_at dksX8_drop_2 8 rfl rfl)
theorem dX8_drop_57 : decode cX8_drop 57 = .ok (.ixor, 1) := dk_130 (dk_at dksX8_drop_2 9 rfl rfl)
theorem dX8_drop_58 : decode cX8_drop 58 = .ok (.iand, 1) := dk_126 (dk_at dksX8_drop_2 10 rfl rfl)
theorem dX8_drop_59 : decode cX8_drop 59 = .ok (.iconst 0, 1) := dk_3 (dk_at dksX8_drop_2 11 rfl rfl)
theorem dX8_drop_60 : decode cX8_drop 60 = .ok (.invokevirtual 210, 3) := dk_182 0 210 (dk_at dksX8_drop_2 12 rfl rfl)
theorem dX8_drop_63 : decode cX8_drop 63 = .ok (.invokestatic 213, 3) := dk_184 0 213 (dk_at dksX8_drop_2 15 rfl rfl)
theorem dX8_drop_66 : decode cX8_drop 66 = .ok (.goto 5, 3) := dk_167 0 5 (dk_at dksX8_drop_2 18 rfl rfl)
theorem dX8_drop_69 : decode cX8_drop 69 = .ok (.ldc 209, 2) := dk_18 209 (dk_at dksX8_drop_2 21 rfl rfl)
theorem dX8_drop_71 : decode cX8_drop 71 = .ok (.istore 5, 2) := dk_54 5 (dk_at dksX8_drop_3 0 rfl rfl)
theorem dX8_drop_73 : decode cX8_drop 73 = .ok (.iload 5, 2) := dk_21 5 (dk_at dksX8_drop_3 2 rfl rfl)
theorem dX8_drop_75 : decode cX8_drop 75 = .ok (.iload_n 3, 1) := dk_29 (dk_at dksX8_drop_3 4 rfl rfl)
theorem dX8_drop_76 : decode cX8_drop 76 = .ok (.if_icmp .ge 8, 3) := dk_162 0 8 (dk_at dksX8_drop_3 5 rfl rfl)
theorem dX8_drop_79 : decode cX8_drop 79 = .ok (.iload 4, 2) := dk_21 4 (dk_at dksX8_drop_3 8 rfl rfl)
theorem dX8_drop_81 : decode cX8_drop 81 = .ok (.goto 4, 3) := dk_167 0 4 (dk_at dksX8_drop_3 10 rfl rfl)
theorem dX8_drop_84 : decode cX8_drop 84 = .ok (.iload_n 2, 1) := dk_28 (dk_at dksX8_drop_3 13 rfl rfl)
theorem dX8_drop_85 : decode cX8_drop 85 = .ok (.istore_n 2, 1) := dk_61 (dk_at dksX8_drop_3 14 rfl rfl)
theorem dX8_drop_86 : decode cX8_drop 86 = .ok (.iload 5, 2) := dk_21 5 (dk_at dksX8_drop_3 15 rfl rfl)
theorem dX8_drop_88 : decode cX8_drop 88 = .ok (.iload_n 3, 1) := dk_29 (dk_at dksX8_drop_3 17 rfl rfl)
theorem dX8_drop_89 : decode cX8_drop 89 = .ok (.if_icmp .ge 8, 3) := dk_162 0 8 (dk_at dksX8_drop_3 18 rfl rfl)
theorem dX8_drop_92 : decode cX8_drop 92 = .ok (.iload 5, 2) := dk_21 5 (dk_at dksX8_drop_3 21 rfl rfl)
theorem dX8_drop_94 : decode cX8_drop 94 = .ok (.goto 4, 3) := dk_167 0 4 (dk_at dksX8_drop_4 0 rfl rfl)
theorem dX8_drop_97 : decode cX8_drop 97 = .ok (.iload_n 3, 1) := dk_29 (dk_at dksX8_drop_4 3 rfl rfl)
theorem dX8_drop_98 : decode cX8_drop 98 = .ok (.istore_n 3, 1) := dk_62 (dk_at dksX8_drop_4 4 rfl rfl)
theorem dX8_drop_99 : decode cX8_drop 99 = .ok (.iinc 4 1, 3) := dk_132 4 1 (dk_at dksX8_drop_4 5 rfl rfl)
theorem dX8_drop_102 : decode cX8_drop 102 = .ok (.goto (-71), 3) := dk_167 255 185 (dk_at dksX8_drop_4 8 rfl rfl)
theorem dX8_drop_105 : decode cX8_drop 105 = .ok (.iload_n 1, 1) := dk_27 (dk_at dksX8_drop_4 11 rfl rfl)
theorem dX8_drop_106 : decode cX8_drop 106 = .ok (.ifCond .ne 7, 3) := dk_154 0 7 (dk_at dksX8_drop_4 12 rfl rfl)
theorem dX8_drop_109 : decode cX8_drop 109 = .ok (.iload_n 2, 1) := dk_28 (dk_at dksX8_drop_4 15 rfl rfl)
theorem dX8_drop_110 : decode cX8_drop 110 = .ok (.goto 4, 3) := dk_167 0 4 (dk_at dksX8_drop_4 16 rfl rfl)
theorem dX8_drop_113 : decode cX8_drop 113 = .ok (.iload_n 3, 1) := dk_29 (dk_at dksX8_drop_4 19 rfl rfl)
theorem dX8_drop_114 : decode cX8_drop 114 = .ok (.ireturn, 1) := dk_172 (dk_at dksX8_drop_4 20 rfl rfl)
abbrev cX8_bits : ByteArray := prog_11_method_48_code
def yX8_bits : MethodName := ⟨RX8, "bits", "(I)I"⟩
def dkwX8_bits_1 : List UInt8 := [27, 172]
abbrev dktX8_bits_1 : List UInt8 := dkwX8_bits_1 ++ []
def dkwX8_bits_0 : List UInt8 := [3, 60, 3, 61, 28, 16, 12, 162, 0, 17, 27, 26, 28, 122, 4, 126, 96, 60, 132, 2, 1, 167, 255, 239]
abbrev dktX8_bits_0 : List UInt8 := dkwX8_bits_0 ++ dktX8_bits_1
theorem dksX8_bits_0 : cX8_bits.data.toList.drop 0 = dktX8_bits_0 := by decide +kernel
theorem dksX8_bits_1 : cX8_bits.data.toList.drop 24 = dktX8_bits_1 := dk_seg dksX8_bits_0 24 rfl rfl
theorem dX8_bits_0 : decode cX8_bits 0 = .ok (.iconst 0, 1) := dk_3 (dk_at dksX8_bits_0 0 rfl rfl)
theorem dX8_bits_1 : decode cX8_bits 1 = .ok (.istore_n 1, 1) := dk_60 (dk_at dksX8_bits_0 1 rfl rfl)
theorem dX8_bits_2 : decode cX8_bits 2 = .ok (.iconst 0, 1) := dk_3 (dk_at dksX8_bits_0 2 rfl rfl)
theorem dX8_bits_3 : decode cX8_bits 3 = .ok (.istore_n 2, 1) := dk_61 (dk_at dksX8_bits_0 3 rfl rfl)
theorem dX8_bits_4 : decode cX8_bits 4 = .ok (.iload_n 2, 1) := dk_28 (dk_at dksX8_bits_0 4 rfl rfl)
theorem dX8_bits_5 : decode cX8_bits 5 = .ok (.bipush 12, 2) := dk_16 12 (dk_at dksX8_bits_0 5 rfl rfl)
theorem dX8_bits_7 : decode cX8_bits 7 = .ok (.if_icmp .ge 17, 3) := dk_162 0 17 (dk_at dksX8_bits_0 7 rfl rfl)
theorem dX8_bits_10 : decode cX8_bits 10 = .ok (.iload_n 1, 1) := dk_27 (dk_at dksX8_bits_0 10 rfl rfl)
theorem dX8_bits_11 : decode cX8_bits 11 = .ok (.iload_n 0, 1) := dk_26 (dk_at dksX8_bits_0 11 rfl rfl)
theorem dX8_bits_12 : decode cX8_bits 12 = .ok (.iload_n 2, 1) := dk_28 (dk_at dksX8_bits_0 12 rfl rfl)
theorem dX8_bits_13 : decode cX8_bits 13 = .ok (.ishr, 1) := dk_122 (dk_at dksX8_bits_0 13 rfl rfl)
theorem dX8_bits_14 : decode cX8_bits 14 = .ok (.iconst 1, 1) := dk_4 (dk_at dksX8_bits_0 14 rfl rfl)
theorem dX8_bits_15 : decode cX8_bits 15 = .ok (.iand, 1) := dk_126 (dk_at dksX8_bits_0 15 rfl rfl)
theorem dX8_bits_16 : decode cX8_bits 16 = .ok (.iadd, 1) := dk_96 (dk_at dksX8_bits_0 16 rfl rfl)
theorem dX8_bits_17 : decode cX8_bits 17 = .ok (.istore_n 1, 1) := dk_60 (dk_at dksX8_bits_0 17 rfl rfl)
theorem dX8_bits_18 : decode cX8_bits 18 = .ok (.iinc 2 1, 3) := dk_132 2 1 (dk_at dksX8_bits_0 18 rfl rfl)
theorem dX8_bits_21 : decode cX8_bits 21 = .ok (.goto (-17), 3) := dk_167 255 239 (dk_at dksX8_bits_0 21 rfl rfl)
theorem dX8_bits_24 : decode cX8_bits 24 = .ok (.iload_n 1, 1) := dk_27 (dk_at dksX8_bits_1 0 rfl rfl)
theorem dX8_bits_25 : decode cX8_bits 25 = .ok (.ireturn, 1) := dk_172 (dk_at dksX8_bits_1 1 rfl rfl)
abbrev cX8_more : ByteArray := prog_11_method_52_code
def yX8_more : MethodName := ⟨RX8, "more", "()I"⟩
def dkwX8_more_1 : List UInt8 := [167, 255, 235, 27, 16, 99, 163, 0, 7, 27, 167, 0, 5, 16, 252, 172]
abbrev dktX8_more_1 : List UInt8 := dkwX8_more_1 ++ []
def dkwX8_more_0 : List UInt8 := [3, 60, 27, 16, 99, 163, 0, 21, 42, 42, 180, 0, 90, 27, 182, 0, 210, 153, 0, 9, 132, 1, 1]
abbrev dktX8_more_0 : List UInt8 := dkwX8_more_0 ++ dktX8_more_1
theorem dksX8_more_0 : cX8_more.data.toList.drop 0 = dktX8_more_0 := by decide +kernel
theorem dksX8_more_1 : cX8_more.data.toList.drop 23 = dktX8_more_1 := dk_seg dksX8_more_0 23 rfl rfl
theorem dX8_more_0 : decode cX8_more 0 = .ok (.iconst 0, 1) := dk_3 (dk_at dksX8_more_0 0 rfl rfl)
theorem dX8_more_1 : decode cX8_more 1 = .ok (.istore_n 1, 1) := dk_60 (dk_at dksX8_more_0 1 rfl rfl)
theorem dX8_more_2 : decode cX8_more 2 = .ok (.iload_n 1, 1) := dk_27 (dk_at dksX8_more_0 2 rfl rfl)
theorem dX8_more_3 : decode cX8_more 3 = .ok (.bipush 99, 2) := dk_16 99 (dk_at dksX8_more_0 3 rfl rfl)
theorem dX8_more_5 : decode cX8_more 5 = .ok (.if_icmp .gt 21, 3) := dk_163 0 21 (dk_at dksX8_more_0 5 rfl rfl)
theorem dX8_more_8 : decode cX8_more 8 = .ok (.aload_n 0, 1) := dk_42 (dk_at dksX8_more_0 8 rfl rfl)
theorem dX8_more_9 : decode cX8_more 9 = .ok (.aload_n 0, 1) := dk_42 (dk_at dksX8_more_0 9 rfl rfl)
theorem dX8_more_10 : decode cX8_more 10 = .ok (.getfield 90, 3) := dk_180 0 90 (dk_at dksX8_more_0 10 rfl rfl)
theorem dX8_more_13 : decode cX8_more 13 = .ok (.iload_n 1, 1) := dk_27 (dk_at dksX8_more_0 13 rfl rfl)
theorem dX8_more_14 : decode cX8_more 14 = .ok (.invokevirtual 210, 3) := dk_182 0 210 (dk_at dksX8_more_0 14 rfl rfl)
theorem dX8_more_17 : decode cX8_more 17 = .ok (.ifCond .eq 9, 3) := dk_153 0 9 (dk_at dksX8_more_0 17 rfl rfl)
theorem dX8_more_20 : decode cX8_more 20 = .ok (.iinc 1 1, 3) := dk_132 1 1 (dk_at dksX8_more_0 20 rfl rfl)
theorem dX8_more_23 : decode cX8_more 23 = .ok (.goto (-21), 3) := dk_167 255 235 (dk_at dksX8_more_1 0 rfl rfl)
theorem dX8_more_26 : decode cX8_more 26 = .ok (.iload_n 1, 1) := dk_27 (dk_at dksX8_more_1 3 rfl rfl)
theorem dX8_more_27 : decode cX8_more 27 = .ok (.bipush 99, 2) := dk_16 99 (dk_at dksX8_more_1 4 rfl rfl)
theorem dX8_more_29 : decode cX8_more 29 = .ok (.if_icmp .gt 7, 3) := dk_163 0 7 (dk_at dksX8_more_1 6 rfl rfl)
theorem dX8_more_32 : decode cX8_more 32 = .ok (.iload_n 1, 1) := dk_27 (dk_at dksX8_more_1 9 rfl rfl)
theorem dX8_more_33 : decode cX8_more 33 = .ok (.goto 5, 3) := dk_167 0 5 (dk_at dksX8_more_1 10 rfl rfl)
theorem dX8_more_36 : decode cX8_more 36 = .ok (.bipush (-4), 2) := dk_16 252 (dk_at dksX8_more_1 13 rfl rfl)
theorem dX8_more_38 : decode cX8_more 38 = .ok (.ireturn, 1) := dk_172 (dk_at dksX8_more_1 15 rfl rfl)
abbrev cX8_day : ByteArray := prog_11_method_54_code
def yX8_day : MethodName := ⟨RX8, "day", "(III)I"⟩
def dkwX8_day_6 : List UInt8 := [182, 0, 193, 21, 5, 172]
abbrev dktX8_day_6 : List UInt8 := dkwX8_day_6 ++ []
def dkwX8_day_5 : List UInt8 := [42, 180, 0, 22, 46, 167, 0, 10, 42, 180, 0, 133, 21, 4, 100, 54, 5, 42, 42, 180, 0, 68, 3]
abbrev dktX8_day_5 : List UInt8 := dkwX8_day_5 ++ dktX8_day_6
def dkwX8_day_4 : List UInt8 := [182, 0, 155, 87, 29, 154, 0, 10, 42, 182, 0, 181, 167, 0, 27, 29, 4, 160, 0, 15, 42, 180, 0, 53]
abbrev dktX8_day_4 : List UInt8 := dkwX8_day_4 ++ dktX8_day_5
def dkwX8_day_3 : List UInt8 := [55, 6, 42, 22, 6, 22, 6, 105, 20, 0, 220, 113, 182, 0, 222, 132, 5, 1, 167, 255, 216, 42]
abbrev dktX8_day_3 : List UInt8 := dkwX8_day_3 ++ dktX8_day_4
def dkwX8_day_2 : List UInt8 := [54, 5, 21, 5, 28, 162, 0, 40, 20, 0, 216, 27, 133, 105, 20, 0, 218, 21, 5, 133, 105, 97, 10, 97]
abbrev dktX8_day_2 : List UInt8 := dkwX8_day_2 ++ dktX8_day_3
def dkwX8_day_1 : List UInt8 := [184, 0, 93, 154, 0, 5, 2, 172, 42, 42, 180, 0, 68, 3, 182, 0, 174, 42, 180, 0, 133, 54, 4, 3]
abbrev dktX8_day_1 : List UInt8 := dkwX8_day_1 ++ dktX8_day_2
def dkwX8_day_0 : List UInt8 := [27, 3, 17, 39, 15, 184, 0, 93, 153, 0, 22, 28, 4, 16, 40, 184, 0, 93, 153, 0, 12, 29, 3, 5]
abbrev dktX8_day_0 : List UInt8 := dkwX8_day_0 ++ dktX8_day_1
theorem dksX8_day_0 : cX8_day.data.toList.drop 0 = dktX8_day_0 := by decide +kernel
theorem dksX8_day_1 : cX8_day.data.toList.drop 24 = dktX8_day_1 := dk_seg dksX8_day_0 24 rfl rfl
theorem dksX8_day_2 : cX8_day.data.toList.drop 48 = dktX8_day_2 := dk_seg dksX8_day_1 24 rfl rfl
theorem dksX8_day_3 : cX8_day.data.toList.drop 72 = dktX8_day_3 := dk_seg dksX8_day_2 24 rfl rfl
theorem dksX8_day_4 : cX8_day.data.toList.drop 94 = dktX8_day_4 := dk_seg dksX8_day_3 22 rfl rfl
theorem dksX8_day_5 : cX8_day.data.toList.drop 118 = dktX8_day_5 := dk_seg dksX8_day_4 24 rfl rfl
theorem dksX8_day_6 : cX8_day.data.toList.drop 141 = dktX8_day_6 := dk_seg dksX8_day_5 23 rfl rfl
theorem dX8_day_0 : decode cX8_day 0 = .ok (.iload_n 1, 1) := dk_27 (dk_at dksX8_day_0 0 rfl rfl)
theorem dX8_day_1 : decode cX8_day 1 = .ok (.iconst 0, 1) := dk_3 (dk_at dksX8_day_0 1 rfl rfl)
theorem dX8_day_2 : decode cX8_day 2 = .ok (.sipush 9999, 3) := dk_17 39 15 (dk_at dksX8_day_0 2 rfl rfl)
theorem dX8_day_5 : decode cX8_day 5 = .ok (.invokestatic 93, 3) := dk_184 0 93 (dk_at dksX8_day_0 5 rfl rfl)
theorem dX8_day_8 : decode cX8_day 8 = .ok (.ifCond .eq 22, 3) := dk_153 0 22 (dk_at dksX8_day_0 8 rfl rfl)
theorem dX8_day_11 : decode cX8_day 11 = .ok (.iload_n 2, 1) := dk_28 (dk_at dksX8_day_0 11 rfl rfl)
theorem dX8_day_12 : decode cX8_day 12 = .ok (.iconst 1, 1) := dk_4 (dk_at dksX8_day_0 12 rfl rfl)
theorem dX8_day_13 : decode cX8_day 13 = .ok (.bipush 40, 2) := dk_16 40 (dk_at dksX8_day_0 13 rfl rfl)
theorem dX8_day_15 : decode cX8_day 15 = .ok (.invokestatic 93, 3) := dk_184 0 93 (dk_at dksX8_day_0 15 rfl rfl)
theorem dX8_day_18 : decode cX8_day 18 = .ok (.ifCond .eq 12, 3) := dk_153 0 12 (dk_at dksX8_day_0 18 rfl rfl)
theorem dX8_day_21 : decode cX8_day 21 = .ok (.iload_n 3, 1) := dk_29 (dk_at dksX8_day_0 21 rfl rfl)
theorem dX8_day_22 : decode cX8_day 22 = .ok (.iconst 0, 1) := dk_3 (dk_at dksX8_day_0 22 rfl rfl)
theorem dX8_day_23 : decode cX8_day 23 = .ok (.iconst 2, 1) := dk_5 (dk_at dksX8_day_0 23 rfl rfl)
theorem dX8_day_24 : decode cX8_day 24 = .ok (.invokestatic 93, 3) := dk_184 0 93 (dk_at dksX8_day_1 0 rfl rfl)
theorem dX8_day_27 : decode cX8_day 27 = .ok (.ifCond .ne 5, 3) := dk_154 0 5 (dk_at dksX8_day_1 3 rfl rfl)
theorem dX8_day_30 : decode cX8_day 30 = .ok (.iconst (-1), 1) := dk_2 (dk_at dksX8_day_1 6 rfl rfl)
theorem dX8_day_31 : decode cX8_day 31 = .ok (.ireturn, 1) := dk_172 (dk_at dksX8_day_1 7 rfl rfl)
theorem dX8_day_32 : decode cX8_day 32 = .ok (.aload_n 0, 1) := dk_42 (dk_at dksX8_day_1 8 rfl rfl)
theorem dX8_day_33 : decode cX8_day 33 = .ok (.aload_n 0, 1) := dk_42 (dk_at dksX8_day_1 9 rfl rfl)
theorem dX8_day_34 : decode cX8_day 34 = .ok (.getfield 68, 3) := dk_180 0 68 (dk_at dksX8_day_1 10 rfl rfl)
theorem dX8_day_37 : decode cX8_day 37 = .ok (.iconst 0, 1) := dk_3 (dk_at dksX8_day_1 13 rfl rfl)
theorem dX8_day_38 : decode cX8_day 38 = .ok (.invokevirtual 174, 3) := dk_182 0 174 (dk_at dksX8_day_1 14 rfl rfl)
theorem dX8_day_41 : decode cX8_day 41 = .ok (.aload_n 0, 1) := dk_42 (dk_at dksX8_day_1 17 rfl rfl)
theorem dX8_day_42 : decode cX8_day 42 = .ok (.getfield 133, 3) := dk_180 0 133 (dk_at dksX8_day_1 18 rfl rfl)
theorem dX8_day_45 : decode cX8_day 45 = .ok (.istore 4, 2) := dk_54 4 (dk_at dksX8_day_1 21 rfl rfl)
theorem dX8_day_47 : decode cX8_day 47 = .ok (.iconst 0, 1) := dk_3 (dk_at dksX8_day_1 23 rfl rfl)
theorem dX8_day_48 : decode cX8_day 48 = .ok (.istore 5, 2) := dk_54 5 (dk_at dksX8_day_2 0 rfl rfl)
theorem dX8_day_50 : decode cX8_day 50 = .ok (.iload 5, 2) := dk_21 5 (dk_at dksX8_day_2 2 rfl rfl)
theorem dX8_day_52 : decode cX8_day 52 = .ok (.iload_n 2, 1) := dk_28 (dk_at dksX8_day_2 4 rfl rfl)
theorem dX8_day_53 : decode cX8_day 53 = .ok (.if_icmp .ge 40, 3) := dk_162 0 40 (dk_at dksX8_day_2 5 rfl rfl)
theorem dX8_day_56 : decode cX8_day 56 = .ok (.ldc2_w 216, 3) := dk_20 0 216 (dk_at dksX8_day_2 8 rfl rfl)
theorem dX8_day_59 : decode cX8_day 59 = .ok (.iload_n 1, 1) := dk_27 (dk_at dksX8_day_2 11 rfl rfl)
theorem dX8_day_60 : decode cX8_day 60 = .ok (.i2l, 1) := dk_133 (dk_at dksX8_day_2 12 rfl rfl)
theorem dX8_day_61 : decode cX8_day 61 = .ok (.lmul, 1) := dk_105 (dk_at dksX8_day_2 13 rfl rfl)
theorem dX8_day_62 : decode cX8_day 62 = .ok (.ldc2_w 218, 3) := dk_20 0 218 (dk_at dksX8_day_2 14 rfl rfl)
theorem dX8_day_65 : decode cX8_day 65 = .ok (.iload 5, 2) := dk_21 5 (dk_at dksX8_day_2 17 rfl rfl)
theorem dX8_day_67 : decode cX8_day 67 = .ok (.i2l, 1) := dk_133 (dk_at dksX8_day_2 19 rfl rfl)
theorem dX8_day_68 : decode cX8_day 68 = .ok (.lmul, 1) := dk_105 (dk_at dksX8_day_2 20 rfl rfl)
theorem dX8_day_69 : decode cX8_day 69 = .ok (.ladd, 1) := dk_97 (dk_at dksX8_day_2 21 rfl rfl)
theorem dX8_day_70 : decode cX8_day 70 = .ok (.lconst 1, 1) := dk_10 (dk_at dksX8_day_2 22 rfl rfl)
theorem dX8_day_71 : decode cX8_day 71 = .ok (.ladd, 1) := dk_97 (dk_at dksX8_day_2 23 rfl rfl)
theorem dX8_day_72 : decode cX8_day 72 = .ok (.lstore 6, 2) := dk_55 6 (dk_at dksX8_day_3 0 rfl rfl)
theorem dX8_day_74 : decode cX8_day 74 = .ok (.aload_n 0, 1) := dk_42 (dk_at dksX8_day_3 2 rfl rfl)
theorem dX8_day_75 : decode cX8_day 75 = .ok (.lload 6, 2) := dk_22 6 (dk_at dksX8_day_3 3 rfl rfl)
theorem dX8_day_77 : decode cX8_day 77 = .ok (.lload 6, 2) := dk_22 6 (dk_at dksX8_day_3 5 rfl rfl)
theorem dX8_day_79 : decode cX8_day 79 = .ok (.lmul, 1) := dk_105 (dk_at dksX8_day_3 7 rfl rfl)
theorem dX8_day_80 : decode cX8_day 80 = .ok (.ldc2_w 220, 3) := dk_20 0 220 (dk_at dksX8_day_3 8 rfl rfl)
theorem dX8_day_83 : decode cX8_day 83 = .ok (.lrem, 1) := dk_113 (dk_at dksX8_day_3 11 rfl rfl)
theorem dX8_day_84 : decode cX8_day 84 = .ok (.invokevirtual 222, 3) := dk_182 0 222 (dk_at dksX8_day_3 12 rfl rfl)
theorem dX8_day_87 : decode cX8_day 87 = .ok (.iinc 5 1, 3) := dk_132 5 1 (dk_at dksX8_day_3 15 rfl rfl)
theorem dX8_day_90 : decode cX8_day 90 = .ok (.goto (-40), 3) := dk_167 255 216 (dk_at dksX8_day_3 18 rfl rfl)
theorem dX8_day_93 : decode cX8_day 93 = .ok (.aload_n 0, 1) := dk_42 (dk_at dksX8_day_3 21 rfl rfl)
theorem dX8_day_94 : decode cX8_day 94 = .ok (.invokevirtual 155, 3) := dk_182 0 155 (dk_at dksX8_day_4 0 rfl rfl)
theorem dX8_day_97 : decode cX8_day 97 = .ok (.pop, 1) := dk_87 (dk_at dksX8_day_4 3 rfl rfl)
theorem dX8_day_98 : decode cX8_day 98 = .ok (.iload_n 3, 1) := dk_29 (dk_at dksX8_day_4 4 rfl rfl)
theorem dX8_day_99 : decode cX8_day 99 = .ok (.ifCond .ne 10, 3) := dk_154 0 10 (dk_at dksX8_day_4 5 rfl rfl)
theorem dX8_day_102 : decode cX8_day 102 = .ok (.aload_n 0, 1) := dk_42 (dk_at dksX8_day_4 8 rfl rfl)
theorem dX8_day_103 : decode cX8_day 103 = .ok (.invokevirtual 181, 3) := dk_182 0 181 (dk_at dksX8_day_4 9 rfl rfl)
theorem dX8_day_106 : decode cX8_day 106 = .ok (.goto 27, 3) := dk_167 0 27 (dk_at dksX8_day_4 12 rfl rfl)
theorem dX8_day_109 : decode cX8_day 109 = .ok (.iload_n 3, 1) := dk_29 (dk_at dksX8_day_4 15 rfl rfl)
theorem dX8_day_110 : decode cX8_day 110 = .ok (.iconst 1, 1) := dk_4 (dk_at dksX8_day_4 16 rfl rfl)
theorem dX8_day_111 : decode cX8_day 111 = .ok (.if_icmp .ne 15, 3) := dk_160 0 15 (dk_at dksX8_day_4 17 rfl rfl)
theorem dX8_day_114 : decode cX8_day 114 = .ok (.aload_n 0, 1) := dk_42 (dk_at dksX8_day_4 20 rfl rfl)
theorem dX8_day_115 : decode cX8_day 115 = .ok (.getfield 53, 3) := dk_180 0 53 (dk_at dksX8_day_4 21 rfl rfl)
theorem dX8_day_118 : decode cX8_day 118 = .ok (.aload_n 0, 1) := dk_42 (dk_at dksX8_day_5 0 rfl rfl)
theorem dX8_day_119 : decode cX8_day 119 = .ok (.getfield 22, 3) := dk_180 0 22 (dk_at dksX8_day_5 1 rfl rfl)
theorem dX8_day_122 : decode cX8_day 122 = .ok (.iaload, 1) := dk_46 (dk_at dksX8_day_5 4 rfl rfl)
theorem dX8_day_123 : decode cX8_day 123 = .ok (.goto 10, 3) := dk_167 0 10 (dk_at dksX8_day_5 5 rfl rfl)
theorem dX8_day_126 : decode cX8_day 126 = .ok (.aload_n 0, 1) := dk_42 (dk_at dksX8_day_5 8 rfl rfl)
theorem dX8_day_127 : decode cX8_day 127 = .ok (.getfield 133, 3) := dk_180 0 133 (dk_at dksX8_day_5 9 rfl rfl)
theorem dX8_day_130 : decode cX8_day 130 = .ok (.iload 4, 2) := dk_21 4 (dk_at dksX8_day_5 12 rfl rfl)
theorem dX8_day_132 : decode cX8_day 132 = .ok (.isub, 1) := dk_100 (dk_at dksX8_day_5 14 rfl rfl)
theorem dX8_day_133 : decode cX8_day 133 = .ok (.istore 5, 2) := dk_54 5 (dk_at dksX8_day_5 15 rfl rfl)
theorem dX8_day_135 : decode cX8_day 135 = .ok (.aload_n 0, 1) := dk_42 (dk_at dksX8_day_5 17 rfl rfl)
theorem dX8_day_136 : decode cX8_day 136 = .ok (.aload_n 0, 1) := dk_42 (dk_at dksX8_day_5 18 rfl rfl)
theorem dX8_day_137 : decode cX8_day 137 = .ok (.getfield 68, 3) := dk_180 0 68 (dk_at dksX8_day_5 19 rfl rfl)
theorem dX8_day_140 : decode cX8_day 140 = .ok (.iconst 0, 1) := dk_3 (dk_at dksX8_day_5 22 rfl rfl)
theorem dX8_day_141 : decode cX8_day 141 = .ok (.invokevirtual 193, 3) := dk_182 0 193 (dk_at dksX8_day_6 0 rfl rfl)
theorem dX8_day_144 : decode cX8_day 144 = .ok (.iload 5, 2) := dk_21 5 (dk_at dksX8_day_6 3 rfl rfl)
theorem dX8_day_146 : decode cX8_day 146 = .ok (.ireturn, 1) := dk_172 (dk_at dksX8_day_6 5 rfl rfl)
abbrev cX8_dayTurn : ByteArray := prog_11_method_53_code
def yX8_dayTurn : MethodName := ⟨RX8, "dayTurn", "(J)V"⟩
def dkwX8_dayTurn_3 : List UInt8 := [21, 4, 4, 96, 16, 12, 112, 54, 4, 167, 255, 238, 42, 21, 4, 182, 0, 187, 177]
abbrev dktX8_dayTurn_3 : List UInt8 := dkwX8_dayTurn_3 ++ []
def dkwX8_dayTurn_2 : List UInt8 := [182, 0, 181, 4, 164, 0, 38, 29, 7, 108, 16, 12, 112, 54, 4, 42, 21, 4, 182, 0, 159, 154, 0, 15]
abbrev dktX8_dayTurn_2 : List UInt8 := dkwX8_dayTurn_2 ++ dktX8_dayTurn_3
def dkwX8_dayTurn_1 : List UInt8 := [112, 29, 16, 16, 108, 16, 100, 112, 29, 16, 32, 108, 16, 100, 112, 4, 182, 0, 86, 87, 167, 0, 46, 42]
abbrev dktX8_dayTurn_1 : List UInt8 := dkwX8_dayTurn_1 ++ dktX8_dayTurn_2
def dkwX8_dayTurn_0 : List UInt8 := [31, 136, 62, 29, 7, 112, 5, 162, 0, 40, 42, 182, 0, 181, 16, 12, 162, 0, 31, 42, 29, 7, 108, 7]
abbrev dktX8_dayTurn_0 : List UInt8 := dkwX8_dayTurn_0 ++ dktX8_dayTurn_1
theorem dksX8_dayTurn_0 : cX8_dayTurn.data.toList.drop 0 = dktX8_dayTurn_0 := by decide +kernel
theorem dksX8_dayTurn_1 : cX8_dayTurn.data.toList.drop 24 = dktX8_dayTurn_1 := dk_seg dksX8_dayTurn_0 24 rfl rfl
theorem dksX8_dayTurn_2 : cX8_dayTurn.data.toList.drop 48 = dktX8_dayTurn_2 := dk_seg dksX8_dayTurn_1 24 rfl rfl
theorem dksX8_dayTurn_3 : cX8_dayTurn.data.toList.drop 72 = dktX8_dayTurn_3 := dk_seg dksX8_dayTurn_2 24 rfl rfl
theorem dX8_dayTurn_0 : decode cX8_dayTurn 0 = .ok (.lload_n 1, 1) := dk_31 (dk_at dksX8_dayTurn_0 0 rfl rfl)
theorem dX8_dayTurn_1 : decode cX8_dayTurn 1 = .ok (.l2i, 1) := dk_136 (dk_at dksX8_dayTurn_0 1 rfl rfl)
theorem dX8_dayTurn_2 : decode cX8_dayTurn 2 = .ok (.istore_n 3, 1) := dk_62 (dk_at dksX8_dayTurn_0 2 rfl rfl)
theorem dX8_dayTurn_3 : decode cX8_dayTurn 3 = .ok (.iload_n 3, 1) := dk_29 (dk_at dksX8_dayTurn_0 3 rfl rfl)
theorem dX8_dayTurn_4 : decode cX8_dayTurn 4 = .ok (.iconst 4, 1) := dk_7 (dk_at dksX8_dayTurn_0 4 rfl rfl)
theorem dX8_dayTurn_5 : decode cX8_dayTurn 5 = .ok (.irem, 1) := dk_112 (dk_at dksX8_dayTurn_0 5 rfl rfl)
theorem dX8_dayTurn_6 : decode cX8_dayTurn 6 = .ok (.iconst 2, 1) := dk_5 (dk_at dksX8_dayTurn_0 6 rfl rfl)
theorem dX8_dayTurn_7 : decode cX8_dayTurn 7 = .ok (.if_icmp .ge 40, 3) := dk_162 0 40 (dk_at dksX8_dayTurn_0 7 rfl rfl)
theorem dX8_dayTurn_10 : decode cX8_dayTurn 10 = .ok (.aload_n 0, 1) := dk_42 (dk_at dksX8_dayTurn_0 10 rfl rfl)
theorem dX8_dayTurn_11 : decode cX8_dayTurn 11 = .ok (.invokevirtual 181, 3) := dk_182 0 181 (dk_at dksX8_dayTurn_0 11 rfl rfl)
theorem dX8_dayTurn_14 : decode cX8_dayTurn 14 = .ok (.bipush 12, 2) := dk_16 12 (dk_at dksX8_dayTurn_0 14 rfl rfl)
theorem dX8_dayTurn_16 : decode cX8_dayTurn 16 = .ok (.if_icmp .ge 31, 3) := dk_162 0 31 (dk_at dksX8_dayTurn_0 16 rfl rfl)
theorem dX8_dayTurn_19 : decode cX8_dayTurn 19 = .ok (.aload_n 0, 1) := dk_42 (dk_at dksX8_dayTurn_0 19 rfl rfl)
theorem dX8_dayTurn_20 : decode cX8_dayTurn 20 = .ok (.iload_n 3, 1) := dk_29 (dk_at dksX8_dayTurn_0 20 rfl rfl)
theorem dX8_dayTurn_21 : decode cX8_dayTurn 21 = .ok (.iconst 4, 1) := dk_7 (dk_at dksX8_dayTurn_0 21 rfl rfl)
theorem dX8_dayTurn_22 : decode cX8_dayTurn 22 = .ok (.idiv, 1) := dk_108 (dk_at dksX8_dayTurn_0 22 rfl rfl)
theorem dX8_dayTurn_23 : decode cX8_dayTurn 23 = .ok (.iconst 4, 1) := dk_7 (dk_at dksX8_dayTurn_0 23 rfl rfl)
theorem dX8_dayTurn_24 : decode cX8_dayTurn 24 = .ok (.irem, 1) := dk_112 (dk_at dksX8_dayTurn_1 0 rfl rfl)
theorem dX8_dayTurn_25 : decode cX8_dayTurn 25 = .ok (.iload_n 3, 1) := dk_29 (dk_at dksX8_dayTurn_1 1 rfl rfl)
theorem dX8_dayTurn_26 : decode cX8_dayTurn 26 = .ok (.bipush 16, 2) := dk_16 16 (dk_at dksX8_dayTurn_1 2 rfl rfl)
theorem dX8_dayTurn_28 : decode cX8_dayTurn 28 = .ok (.idiv, 1) := dk_108 (dk_at dksX8_dayTurn_1 4 rfl rfl)
theorem dX8_dayTurn_29 : decode cX8_dayTurn 29 = .ok (.bipush 100, 2) := dk_16 100 (dk_at dksX8_dayTurn_1 5 rfl rfl)
theorem dX8_dayTurn_31 : decode cX8_dayTurn 31 = .ok (.irem, 1) := dk_112 (dk_at dksX8_dayTurn_1 7 rfl rfl)
theorem dX8_dayTurn_32 : decode cX8_dayTurn 32 = .ok (.iload_n 3, 1) := dk_29 (dk_at dksX8_dayTurn_1 8 rfl rfl)
theorem dX8_dayTurn_33 : decode cX8_dayTurn 33 = .ok (.bipush 32, 2) := dk_16 32 (dk_at dksX8_dayTurn_1 9 rfl rfl)
theorem dX8_dayTurn_35 : decode cX8_dayTurn 35 = .ok (.idiv, 1) := dk_108 (dk_at dksX8_dayTurn_1 11 rfl rfl)
theorem dX8_dayTurn_36 : decode cX8_dayTurn 36 = .ok (.bipush 100, 2) := dk_16 100 (dk_at dksX8_dayTurn_1 12 rfl rfl)
theorem dX8_dayTurn_38 : decode cX8_dayTurn 38 = .ok (.irem, 1) := dk_112 (dk_at dksX8_dayTurn_1 14 rfl rfl)
theorem dX8_dayTurn_39 : decode cX8_dayTurn 39 = .ok (.iconst 1, 1) := dk_4 (dk_at dksX8_dayTurn_1 15 rfl rfl)
theorem dX8_dayTurn_40 : decode cX8_dayTurn 40 = .ok (.invokevirtual 86, 3) := dk_182 0 86 (dk_at dksX8_dayTurn_1 16 rfl rfl)
theorem dX8_dayTurn_43 : decode cX8_dayTurn 43 = .ok (.pop, 1) := dk_87 (dk_at dksX8_dayTurn_1 19 rfl rfl)
theorem dX8_dayTurn_44 : decode cX8_dayTurn 44 = .ok (.goto 46, 3) := dk_167 0 46 (dk_at dksX8_dayTurn_1 20 rfl rfl)
theorem dX8_dayTurn_47 : decode cX8_dayTurn 47 = .ok (.aload_n 0, 1) := dk_42 (dk_at dksX8_dayTurn_1 23 rfl rfl)
theorem dX8_dayTurn_48 : decode cX8_dayTurn 48 = .ok (.invokevirtual 181, 3) := dk_182 0 181 (dk_at dksX8_dayTurn_2 0 rfl rfl)
theorem dX8_dayTurn_51 : decode cX8_dayTurn 51 = .ok (.iconst 1, 1) := dk_4 (dk_at dksX8_dayTurn_2 3 rfl rfl)
theorem dX8_dayTurn_52 : decode cX8_dayTurn 52 = .ok (.if_icmp .le 38, 3) := dk_164 0 38 (dk_at dksX8_dayTurn_2 4 rfl rfl)
theorem dX8_dayTurn_55 : decode cX8_dayTurn 55 = .ok (.iload_n 3, 1) := dk_29 (dk_at dksX8_dayTurn_2 7 rfl rfl)
theorem dX8_dayTurn_56 : decode cX8_dayTurn 56 = .ok (.iconst 4, 1) := dk_7 (dk_at dksX8_dayTurn_2 8 rfl rfl)
theorem dX8_dayTurn_57 : decode cX8_dayTurn 57 = .ok (.idiv, 1) := dk_108 (dk_at dksX8_dayTurn_2 9 rfl rfl)
theorem dX8_dayTurn_58 : decode cX8_dayTurn 58 = .ok (.bipush 12, 2) := dk_16 12 (dk_at dksX8_dayTurn_2 10 rfl rfl)
theorem dX8_dayTurn_60 : decode cX8_dayTurn 60 = .ok (.irem, 1) := dk_112 (dk_at dksX8_dayTurn_2 12 rfl rfl)
theorem dX8_dayTurn_61 : decode cX8_dayTurn 61 = .ok (.istore 4, 2) := dk_54 4 (dk_at dksX8_dayTurn_2 13 rfl rfl)
theorem dX8_dayTurn_63 : decode cX8_dayTurn 63 = .ok (.aload_n 0, 1) := dk_42 (dk_at dksX8_dayTurn_2 15 rfl rfl)
theorem dX8_dayTurn_64 : decode cX8_dayTurn 64 = .ok (.iload 4, 2) := dk_21 4 (dk_at dksX8_dayTurn_2 16 rfl rfl)
theorem dX8_dayTurn_66 : decode cX8_dayTurn 66 = .ok (.invokevirtual 159, 3) := dk_182 0 159 (dk_at dksX8_dayTurn_2 18 rfl rfl)
theorem dX8_dayTurn_69 : decode cX8_dayTurn 69 = .ok (.ifCond .ne 15, 3) := dk_154 0 15 (dk_at dksX8_dayTurn_2 21 rfl rfl)
theorem dX8_dayTurn_72 : decode cX8_dayTurn 72 = .ok (.iload 4, 2) := dk_21 4 (dk_at dksX8_dayTurn_3 0 rfl rfl)
theorem dX8_dayTurn_74 : decode cX8_dayTurn 74 = .ok (.iconst 1, 1) := dk_4 (dk_at dksX8_dayTurn_3 2 rfl rfl)
theorem dX8_dayTurn_75 : decode cX8_dayTurn 75 = .ok (.iadd, 1) := dk_96 (dk_at dksX8_dayTurn_3 3 rfl rfl)
theorem dX8_dayTurn_76 : decode cX8_dayTurn 76 = .ok (.bipush 12, 2) := dk_16 12 (dk_at dksX8_dayTurn_3 4 rfl rfl)
theorem dX8_dayTurn_78 : decode cX8_dayTurn 78 = .ok (.irem, 1) := dk_112 (dk_at dksX8_dayTurn_3 6 rfl rfl)
theorem dX8_dayTurn_79 : decode cX8_dayTurn 79 = .ok (.istore 4, 2) := dk_54 4 (dk_at dksX8_dayTurn_3 7 rfl rfl)
theorem dX8_dayTurn_81 : decode cX8_dayTurn 81 = .ok (.goto (-18), 3) := dk_167 255 238 (dk_at dksX8_dayTurn_3 9 rfl rfl)
theorem dX8_dayTurn_84 : decode cX8_dayTurn 84 = .ok (.aload_n 0, 1) := dk_42 (dk_at dksX8_dayTurn_3 12 rfl rfl)
theorem dX8_dayTurn_85 : decode cX8_dayTurn 85 = .ok (.iload 4, 2) := dk_21 4 (dk_at dksX8_dayTurn_3 13 rfl rfl)
theorem dX8_dayTurn_87 : decode cX8_dayTurn 87 = .ok (.invokevirtual 187, 3) := dk_182 0 187 (dk_at dksX8_dayTurn_3 15 rfl rfl)
theorem dX8_dayTurn_90 : decode cX8_dayTurn 90 = .ok (.return_, 1) := dk_177 (dk_at dksX8_dayTurn_3 18 rfl rfl)
abbrev cX8_count : ByteArray := prog_11_method_56_code
def yX8_count : MethodName := ⟨RX8, "count", "(I)I"⟩
def dkwX8_count_3 : List UInt8 := [42, 182, 0, 226, 172, 42, 180, 0, 171, 172, 42, 180, 0, 196, 172, 42, 180, 0, 229, 172]
abbrev dktX8_count_3 : List UInt8 := dkwX8_count_3 ++ []
def dkwX8_count_2 : List UInt8 := [42, 182, 0, 181, 172, 42, 180, 0, 90, 172, 5, 42, 182, 0, 181, 104, 4, 100, 172, 42, 182, 0, 190, 172]
abbrev dktX8_count_2 : List UInt8 := dkwX8_count_2 ++ dktX8_count_3
def dkwX8_count_1 : List UInt8 := [170, 0, 0, 0, 0, 0, 82, 0, 0, 0, 0, 0, 0, 0, 6, 0, 0, 0, 43, 0, 0, 0, 48, 0, 0, 0, 53, 0, 0, 0, 62, 0, 0, 0, 67, 0, 0, 0, 72, 0, 0, 0, 77]
abbrev dktX8_count_1 : List UInt8 := dkwX8_count_1 ++ dktX8_count_2
def dkwX8_count_0 : List UInt8 := [27, 3, 16, 7, 184, 0, 93, 154, 0, 5, 2, 172, 27]
abbrev dktX8_count_0 : List UInt8 := dkwX8_count_0 ++ dktX8_count_1
theorem dksX8_count_0 : cX8_count.data.toList.drop 0 = dktX8_count_0 := by decide +kernel
theorem dksX8_count_1 : cX8_count.data.toList.drop 13 = dktX8_count_1 := dk_seg dksX8_count_0 13 rfl rfl
theorem dksX8_count_2 : cX8_count.data.toList.drop 56 = dktX8_count_2 := dk_seg dksX8_count_1 43 rfl rfl
theorem dksX8_count_3 : cX8_count.data.toList.drop 80 = dktX8_count_3 := dk_seg dksX8_count_2 24 rfl rfl
theorem dX8_count_0 : decode cX8_count 0 = .ok (.iload_n 1, 1) := dk_27 (dk_at dksX8_count_0 0 rfl rfl)
theorem dX8_count_1 : decode cX8_count 1 = .ok (.iconst 0, 1) := dk_3 (dk_at dksX8_count_0 1 rfl rfl)
theorem dX8_count_2 : decode cX8_count 2 = .ok (.bipush 7, 2) := dk_16 7 (dk_at dksX8_count_0 2 rfl rfl)
theorem dX8_count_4 : decode cX8_count 4 = .ok (.invokestatic 93, 3) := dk_184 0 93 (dk_at dksX8_count_0 4 rfl rfl)
theorem dX8_count_7 : decode cX8_count 7 = .ok (.ifCond .ne 5, 3) := dk_154 0 5 (dk_at dksX8_count_0 7 rfl rfl)
theorem dX8_count_10 : decode cX8_count 10 = .ok (.iconst (-1), 1) := dk_2 (dk_at dksX8_count_0 10 rfl rfl)
theorem dX8_count_11 : decode cX8_count 11 = .ok (.ireturn, 1) := dk_172 (dk_at dksX8_count_0 11 rfl rfl)
theorem dX8_count_12 : decode cX8_count 12 = .ok (.iload_n 1, 1) := dk_27 (dk_at dksX8_count_0 12 rfl rfl)
theorem dX8_count_13 : decode cX8_count 13 = .ok (.tableswitch 82 0 6 #[43, 48, 53, 62, 67, 72, 77], 43) := by decide +kernel
theorem dX8_count_56 : decode cX8_count 56 = .ok (.aload_n 0, 1) := dk_42 (dk_at dksX8_count_2 0 rfl rfl)
theorem dX8_count_57 : decode cX8_count 57 = .ok (.invokevirtual 181, 3) := dk_182 0 181 (dk_at dksX8_count_2 1 rfl rfl)
theorem dX8_count_60 : decode cX8_count 60 = .ok (.ireturn, 1) := dk_172 (dk_at dksX8_count_2 4 rfl rfl)
theorem dX8_count_61 : decode cX8_count 61 = .ok (.aload_n 0, 1) := dk_42 (dk_at dksX8_count_2 5 rfl rfl)
theorem dX8_count_62 : decode cX8_count 62 = .ok (.getfield 90, 3) := dk_180 0 90 (dk_at dksX8_count_2 6 rfl rfl)
theorem dX8_count_65 : decode cX8_count 65 = .ok (.ireturn, 1) := dk_172 (dk_at dksX8_count_2 9 rfl rfl)
theorem dX8_count_66 : decode cX8_count 66 = .ok (.iconst 2, 1) := dk_5 (dk_at dksX8_count_2 10 rfl rfl)
theorem dX8_count_67 : decode cX8_count 67 = .ok (.aload_n 0, 1) := dk_42 (dk_at dksX8_count_2 11 rfl rfl)
theorem dX8_count_68 : decode cX8_count 68 = .ok (.invokevirtual 181, 3) := dk_182 0 181 (dk_at dksX8_count_2 12 rfl rfl)
theorem dX8_count_71 : decode cX8_count 71 = .ok (.imul, 1) := dk_104 (dk_at dksX8_count_2 15 rfl rfl)
theorem dX8_count_72 : decode cX8_count 72 = .ok (.iconst 1, 1) := dk_4 (dk_at dksX8_count_2 16 rfl rfl)
theorem dX8_count_73 : decode cX8_count 73 = .ok (.isub, 1) := dk_100 (dk_at dksX8_count_2 17 rfl rfl)
theorem dX8_count_74 : decode cX8_count 74 = .ok (.ireturn, 1) := dk_172 (dk_at dksX8_count_2 18 rfl rfl)
theorem dX8_count_75 : decode cX8_count 75 = .ok (.aload_n 0, 1) := dk_42 (dk_at dksX8_count_2 19 rfl rfl)
theorem dX8_count_76 : decode cX8_count 76 = .ok (.invokevirtual 190, 3) := dk_182 0 190 (dk_at dksX8_count_2 20 rfl rfl)
theorem dX8_count_79 : decode cX8_count 79 = .ok (.ireturn, 1) := dk_172 (dk_at dksX8_count_2 23 rfl rfl)
theorem dX8_count_80 : decode cX8_count 80 = .ok (.aload_n 0, 1) := dk_42 (dk_at dksX8_count_3 0 rfl rfl)
theorem dX8_count_81 : decode cX8_count 81 = .ok (.invokevirtual 226, 3) := dk_182 0 226 (dk_at dksX8_count_3 1 rfl rfl)
theorem dX8_count_84 : decode cX8_count 84 = .ok (.ireturn, 1) := dk_172 (dk_at dksX8_count_3 4 rfl rfl)
theorem dX8_count_85 : decode cX8_count 85 = .ok (.aload_n 0, 1) := dk_42 (dk_at dksX8_count_3 5 rfl rfl)
theorem dX8_count_86 : decode cX8_count 86 = .ok (.getfield 171, 3) := dk_180 0 171 (dk_at dksX8_count_3 6 rfl rfl)
theorem dX8_count_89 : decode cX8_count 89 = .ok (.ireturn, 1) := dk_172 (dk_at dksX8_count_3 9 rfl rfl)
theorem dX8_count_90 : decode cX8_count 90 = .ok (.aload_n 0, 1) := dk_42 (dk_at dksX8_count_3 10 rfl rfl)
theorem dX8_count_91 : decode cX8_count 91 = .ok (.getfield 196, 3) := dk_180 0 196 (dk_at dksX8_count_3 11 rfl rfl)
theorem dX8_count_94 : decode cX8_count 94 = .ok (.ireturn, 1) := dk_172 (dk_at dksX8_count_3 14 rfl rfl)
theorem dX8_count_95 : decode cX8_count 95 = .ok (.aload_n 0, 1) := dk_42 (dk_at dksX8_count_3 15 rfl rfl)
theorem dX8_count_96 : decode cX8_count 96 = .ok (.getfield 229, 3) := dk_180 0 229 (dk_at dksX8_count_3 16 rfl rfl)
theorem dX8_count_99 : decode cX8_count 99 = .ok (.ireturn, 1) := dk_172 (dk_at dksX8_count_3 19 rfl rfl)
abbrev cX8_holdNone : ByteArray := prog_11_method_55_code
def yX8_holdNone : MethodName := ⟨RX8, "holdNone", "()I"⟩
def dkwX8_holdNone_1 : List UInt8 := [46, 46, 16, 252, 160, 0, 7, 4, 167, 0, 4, 3, 96, 61, 132, 3, 1, 167, 255, 224, 28, 172]
abbrev dktX8_holdNone_1 : List UInt8 := dkwX8_holdNone_1 ++ []
def dkwX8_holdNone_0 : List UInt8 := [42, 182, 0, 155, 60, 3, 61, 3, 62, 29, 27, 162, 0, 33, 28, 42, 180, 0, 53, 42, 180, 0, 56, 29]
abbrev dktX8_holdNone_0 : List UInt8 := dkwX8_holdNone_0 ++ dktX8_holdNone_1
theorem dksX8_holdNone_0 : cX8_holdNone.data.toList.drop 0 = dktX8_holdNone_0 := by decide +kernel
theorem dksX8_holdNone_1 : cX8_holdNone.data.toList.drop 24 = dktX8_holdNone_1 := dk_seg dksX8_holdNone_0 24 rfl rfl
theorem dX8_holdNone_0 : decode cX8_holdNone 0 = .ok (.aload_n 0, 1) := dk_42 (dk_at dksX8_holdNone_0 0 rfl rfl)
theorem dX8_holdNone_1 : decode cX8_holdNone 1 = .ok (.invokevirtual 155, 3) := dk_182 0 155 (dk_at dksX8_holdNone_0 1 rfl rfl)
theorem dX8_holdNone_4 : decode cX8_holdNone 4 = .ok (.istore_n 1, 1) := dk_60 (dk_at dksX8_holdNone_0 4 rfl rfl)
theorem dX8_holdNone_5 : decode cX8_holdNone 5 = .ok (.iconst 0, 1) := dk_3 (dk_at dksX8_holdNone_0 5 rfl rfl)
theorem dX8_holdNone_6 : decode cX8_holdNone 6 = .ok (.istore_n 2, 1) := dk_61 (dk_at dksX8_holdNone_0 6 rfl rfl)
theorem dX8_holdNone_7 : decode cX8_holdNone 7 = .ok (.iconst 0, 1) := dk_3 (dk_at dksX8_holdNone_0 7 rfl rfl)
theorem dX8_holdNone_8 : decode cX8_holdNone 8 = .ok (.istore_n 3, 1) := dk_62 (dk_at dksX8_holdNone_0 8 rfl rfl)
theorem dX8_holdNone_9 : decode cX8_holdNone 9 = .ok (.iload_n 3, 1) := dk_29 (dk_at dksX8_holdNone_0 9 rfl rfl)
theorem dX8_holdNone_10 : decode cX8_holdNone 10 = .ok (.iload_n 1, 1) := dk_27 (dk_at dksX8_holdNone_0 10 rfl rfl)
theorem dX8_holdNone_11 : decode cX8_holdNone 11 = .ok (.if_icmp .ge 33, 3) := dk_162 0 33 (dk_at dksX8_holdNone_0 11 rfl rfl)
theorem dX8_holdNone_14 : decode cX8_holdNone 14 = .ok (.iload_n 2, 1) := dk_28 (dk_at dksX8_holdNone_0 14 rfl rfl)
theorem dX8_holdNone_15 : decode cX8_holdNone 15 = .ok (.aload_n 0, 1) := dk_42 (dk_at dksX8_holdNone_0 15 rfl rfl)
theorem dX8_holdNone_16 : decode cX8_holdNone 16 = .ok (.getfield 53, 3) := dk_180 0 53 (dk_at dksX8_holdNone_0 16 rfl rfl)
theorem dX8_holdNone_19 : decode cX8_holdNone 19 = .ok (.aload_n 0, 1) := dk_42 (dk_at dksX8_holdNone_0 19 rfl rfl)
theorem dX8_holdNone_20 : decode cX8_holdNone 20 = .ok (.getfield 56, 3) := dk_180 0 56 (dk_at dksX8_holdNone_0 20 rfl rfl)
theorem dX8_holdNone_23 : decode cX8_holdNone 23 = .ok (.iload_n 3, 1) := dk_29 (dk_at dksX8_holdNone_0 23 rfl rfl)
theorem dX8_holdNone_24 : decode cX8_holdNone 24 = .ok (.iaload, 1) := dk_46 (dk_at dksX8_holdNone_1 0 rfl rfl)
theorem dX8_holdNone_25 : decode cX8_holdNone 25 = .ok (.iaload, 1) := dk_46 (dk_at dksX8_holdNone_1 1 rfl rfl)
theorem dX8_holdNone_26 : decode cX8_holdNone 26 = .ok (.bipush (-4), 2) := dk_16 252 (dk_at dksX8_holdNone_1 2 rfl rfl)
theorem dX8_holdNone_28 : decode cX8_holdNone 28 = .ok (.if_icmp .ne 7, 3) := dk_160 0 7 (dk_at dksX8_holdNone_1 4 rfl rfl)
theorem dX8_holdNone_31 : decode cX8_holdNone 31 = .ok (.iconst 1, 1) := dk_4 (dk_at dksX8_holdNone_1 7 rfl rfl)
theorem dX8_holdNone_32 : decode cX8_holdNone 32 = .ok (.goto 4, 3) := dk_167 0 4 (dk_at dksX8_holdNone_1 8 rfl rfl)
theorem dX8_holdNone_35 : decode cX8_holdNone 35 = .ok (.iconst 0, 1) := dk_3 (dk_at dksX8_holdNone_1 11 rfl rfl)
theorem dX8_holdNone_36 : decode cX8_holdNone 36 = .ok (.iadd, 1) := dk_96 (dk_at dksX8_holdNone_1 12 rfl rfl)
theorem dX8_holdNone_37 : decode cX8_holdNone 37 = .ok (.istore_n 2, 1) := dk_61 (dk_at dksX8_holdNone_1 13 rfl rfl)
theorem dX8_holdNone_38 : decode cX8_holdNone 38 = .ok (.iinc 3 1, 3) := dk_132 3 1 (dk_at dksX8_holdNone_1 14 rfl rfl)
theorem dX8_holdNone_41 : decode cX8_holdNone 41 = .ok (.goto (-32), 3) := dk_167 255 224 (dk_at dksX8_holdNone_1 17 rfl rfl)
theorem dX8_holdNone_44 : decode cX8_holdNone 44 = .ok (.iload_n 2, 1) := dk_28 (dk_at dksX8_holdNone_1 20 rfl rfl)
theorem dX8_holdNone_45 : decode cX8_holdNone 45 = .ok (.ireturn, 1) := dk_172 (dk_at dksX8_holdNone_1 21 rfl rfl)
abbrev cX8_write : ByteArray := prog_11_method_57_code
def yX8_write : MethodName := ⟨RX8, "write", "(I)I"⟩
def dkwX8_write_2 : List UInt8 := [180, 0, 229, 172]
abbrev dktX8_write_2 : List UInt8 := dkwX8_write_2 ++ []
def dkwX8_write_1 : List UInt8 := [16, 253, 172, 42, 180, 0, 77, 42, 180, 0, 229, 27, 79, 42, 89, 180, 0, 229, 4, 96, 181, 0, 229, 42]
abbrev dktX8_write_1 : List UInt8 := dkwX8_write_1 ++ dktX8_write_2
def dkwX8_write_0 : List UInt8 := [27, 16, 32, 16, 126, 184, 0, 93, 154, 0, 5, 2, 172, 42, 180, 0, 229, 17, 0, 200, 160, 0, 6]
abbrev dktX8_write_0 : List UInt8 := dkwX8_write_0 ++ dktX8_write_1
theorem dksX8_write_0 : cX8_write.data.toList.drop 0 = dktX8_write_0 := by decide +kernel
theorem dksX8_write_1 : cX8_write.data.toList.drop 23 = dktX8_write_1 := dk_seg dksX8_write_0 23 rfl rfl
theorem dksX8_write_2 : cX8_write.data.toList.drop 47 = dktX8_write_2 := dk_seg dksX8_write_1 24 rfl rfl
theorem dX8_write_0 : decode cX8_write 0 = .ok (.iload_n 1, 1) := dk_27 (dk_at dksX8_write_0 0 rfl rfl)
theorem dX8_write_1 : decode cX8_write 1 = .ok (.bipush 32, 2) := dk_16 32 (dk_at dksX8_write_0 1 rfl rfl)
theorem dX8_write_3 : decode cX8_write 3 = .ok (.bipush 126, 2) := dk_16 126 (dk_at dksX8_write_0 3 rfl rfl)
theorem dX8_write_5 : decode cX8_write 5 = .ok (.invokestatic 93, 3) := dk_184 0 93 (dk_at dksX8_write_0 5 rfl rfl)
theorem dX8_write_8 : decode cX8_write 8 = .ok (.ifCond .ne 5, 3) := dk_154 0 5 (dk_at dksX8_write_0 8 rfl rfl)
theorem dX8_write_11 : decode cX8_write 11 = .ok (.iconst (-1), 1) := dk_2 (dk_at dksX8_write_0 11 rfl rfl)
theorem dX8_write_12 : decode cX8_write 12 = .ok (.ireturn, 1) := dk_172 (dk_at dksX8_write_0 12 rfl rfl)
theorem dX8_write_13 : decode cX8_write 13 = .ok (.aload_n 0, 1) := dk_42 (dk_at dksX8_write_0 13 rfl rfl)
theorem dX8_write_14 : decode cX8_write 14 = .ok (.getfield 229, 3) := dk_180 0 229 (dk_at dksX8_write_0 14 rfl rfl)
theorem dX8_write_17 : decode cX8_write 17 = .ok (.sipush 200, 3) := dk_17 0 200 (dk_at dksX8_write_0 17 rfl rfl)
theorem dX8_write_20 : decode cX8_write 20 = .ok (.if_icmp .ne 6, 3) := dk_160 0 6 (dk_at dksX8_write_0 20 rfl rfl)
theorem dX8_write_23 : decode cX8_write 23 = .ok (.bipush (-3), 2) := dk_16 253 (dk_at dksX8_write_1 0 rfl rfl)
theorem dX8_write_25 : decode cX8_write 25 = .ok (.ireturn, 1) := dk_172 (dk_at dksX8_write_1 2 rfl rfl)
theorem dX8_write_26 : decode cX8_write 26 = .ok (.aload_n 0, 1) := dk_42 (dk_at dksX8_write_1 3 rfl rfl)
theorem dX8_write_27 : decode cX8_write 27 = .ok (.getfield 77, 3) := dk_180 0 77 (dk_at dksX8_write_1 4 rfl rfl)
theorem dX8_write_30 : decode cX8_write 30 = .ok (.aload_n 0, 1) := dk_42 (dk_at dksX8_write_1 7 rfl rfl)
theorem dX8_write_31 : decode cX8_write 31 = .ok (.getfield 229, 3) := dk_180 0 229 (dk_at dksX8_write_1 8 rfl rfl)
theorem dX8_write_34 : decode cX8_write 34 = .ok (.iload_n 1, 1) := dk_27 (dk_at dksX8_write_1 11 rfl rfl)
theorem dX8_write_35 : decode cX8_write 35 = .ok (.iastore, 1) := dk_79 (dk_at dksX8_write_1 12 rfl rfl)
theorem dX8_write_36 : decode cX8_write 36 = .ok (.aload_n 0, 1) := dk_42 (dk_at dksX8_write_1 13 rfl rfl)
theorem dX8_write_37 : decode cX8_write 37 = .ok (.dup, 1) := dk_89 (dk_at dksX8_write_1 14 rfl rfl)
theorem dX8_write_38 : decode cX8_write 38 = .ok (.getfield 229, 3) := dk_180 0 229 (dk_at dksX8_write_1 15 rfl rfl)
theorem dX8_write_41 : decode cX8_write 41 = .ok (.iconst 1, 1) := dk_4 (dk_at dksX8_write_1 18 rfl rfl)
theorem dX8_write_42 : decode cX8_write 42 = .ok (.iadd, 1) := dk_96 (dk_at dksX8_write_1 19 rfl rfl)
theorem dX8_write_43 : decode cX8_write 43 = .ok (.putfield 229, 3) := dk_181 0 229 (dk_at dksX8_write_1 20 rfl rfl)
theorem dX8_write_46 : decode cX8_write 46 = .ok (.aload_n 0, 1) := dk_42 (dk_at dksX8_write_1 23 rfl rfl)
theorem dX8_write_47 : decode cX8_write 47 = .ok (.getfield 229, 3) := dk_180 0 229 (dk_at dksX8_write_2 0 rfl rfl)
theorem dX8_write_50 : decode cX8_write 50 = .ok (.ireturn, 1) := dk_172 (dk_at dksX8_write_2 3 rfl rfl)
abbrev cX8_wipe : ByteArray := prog_11_method_58_code
def yX8_wipe : MethodName := ⟨RX8, "wipe", "()I"⟩
def dkwX8_wipe_0 : List UInt8 := [42, 180, 0, 229, 60, 42, 3, 181, 0, 229, 27, 172]
abbrev dktX8_wipe_0 : List UInt8 := dkwX8_wipe_0 ++ []
theorem dksX8_wipe_0 : cX8_wipe.data.toList.drop 0 = dktX8_wipe_0 := by decide +kernel
theorem dX8_wipe_0 : decode cX8_wipe 0 = .ok (.aload_n 0, 1) := dk_42 (dk_at dksX8_wipe_0 0 rfl rfl)
theorem dX8_wipe_1 : decode cX8_wipe 1 = .ok (.getfield 229, 3) := dk_180 0 229 (dk_at dksX8_wipe_0 1 rfl rfl)
theorem dX8_wipe_4 : decode cX8_wipe 4 = .ok (.istore_n 1, 1) := dk_60 (dk_at dksX8_wipe_0 4 rfl rfl)
theorem dX8_wipe_5 : decode cX8_wipe 5 = .ok (.aload_n 0, 1) := dk_42 (dk_at dksX8_wipe_0 5 rfl rfl)
theorem dX8_wipe_6 : decode cX8_wipe 6 = .ok (.iconst 0, 1) := dk_3 (dk_at dksX8_wipe_0 6 rfl rfl)
theorem dX8_wipe_7 : decode cX8_wipe 7 = .ok (.putfield 229, 3) := dk_181 0 229 (dk_at dksX8_wipe_0 7 rfl rfl)
theorem dX8_wipe_10 : decode cX8_wipe 10 = .ok (.iload_n 1, 1) := dk_27 (dk_at dksX8_wipe_0 10 rfl rfl)
theorem dX8_wipe_11 : decode cX8_wipe 11 = .ok (.ireturn, 1) := dk_172 (dk_at dksX8_wipe_0 11 rfl rfl)
abbrev cX8_fault : ByteArray := prog_11_method_63_code
def yX8_fault : MethodName := ⟨RX8, "fault", "()I"⟩
def dkwX8_fault_1 : List UInt8 := [180, 0, 232, 60, 42, 182, 0, 251, 154, 0, 5, 27, 172, 167, 255, 231, 16, 252, 172]
abbrev dktX8_fault_1 : List UInt8 := dkwX8_fault_1 ++ []
def dkwX8_fault_0 : List UInt8 := [42, 3, 181, 0, 232, 42, 3, 181, 0, 245, 42, 180, 0, 232, 42, 180, 0, 229, 162, 0, 20, 42]
abbrev dktX8_fault_0 : List UInt8 := dkwX8_fault_0 ++ dktX8_fault_1
theorem dksX8_fault_0 : cX8_fault.data.toList.drop 0 = dktX8_fault_0 := by decide +kernel
theorem dksX8_fault_1 : cX8_fault.data.toList.drop 22 = dktX8_fault_1 := dk_seg dksX8_fault_0 22 rfl rfl
theorem dX8_fault_0 : decode cX8_fault 0 = .ok (.aload_n 0, 1) := dk_42 (dk_at dksX8_fault_0 0 rfl rfl)
theorem dX8_fault_1 : decode cX8_fault 1 = .ok (.iconst 0, 1) := dk_3 (dk_at dksX8_fault_0 1 rfl rfl)
theorem dX8_fault_2 : decode cX8_fault 2 = .ok (.putfield 232, 3) := dk_181 0 232 (dk_at dksX8_fault_0 2 rfl rfl)
theorem dX8_fault_5 : decode cX8_fault 5 = .ok (.aload_n 0, 1) := dk_42 (dk_at dksX8_fault_0 5 rfl rfl)
theorem dX8_fault_6 : decode cX8_fault 6 = .ok (.iconst 0, 1) := dk_3 (dk_at dksX8_fault_0 6 rfl rfl)
theorem dX8_fault_7 : decode cX8_fault 7 = .ok (.putfield 245, 3) := dk_181 0 245 (dk_at dksX8_fault_0 7 rfl rfl)
theorem dX8_fault_10 : decode cX8_fault 10 = .ok (.aload_n 0, 1) := dk_42 (dk_at dksX8_fault_0 10 rfl rfl)
theorem dX8_fault_11 : decode cX8_fault 11 = .ok (.getfield 232, 3) := dk_180 0 232 (dk_at dksX8_fault_0 11 rfl rfl)
theorem dX8_fault_14 : decode cX8_fault 14 = .ok (.aload_n 0, 1) := dk_42 (dk_at dksX8_fault_0 14 rfl rfl)
theorem dX8_fault_15 : decode cX8_fault 15 = .ok (.getfield 229, 3) := dk_180 0 229 (dk_at dksX8_fault_0 15 rfl rfl)
theorem dX8_fault_18 : decode cX8_fault 18 = .ok (.if_icmp .ge 20, 3) := dk_162 0 20 (dk_at dksX8_fault_0 18 rfl rfl)
theorem dX8_fault_21 : decode cX8_fault 21 = .ok (.aload_n 0, 1) := dk_42 (dk_at dksX8_fault_0 21 rfl rfl)
theorem dX8_fault_22 : decode cX8_fault 22 = .ok (.getfield 232, 3) := dk_180 0 232 (dk_at dksX8_fault_1 0 rfl rfl)
theorem dX8_fault_25 : decode cX8_fault 25 = .ok (.istore_n 1, 1) := dk_60 (dk_at dksX8_fault_1 3 rfl rfl)
theorem dX8_fault_26 : decode cX8_fault 26 = .ok (.aload_n 0, 1) := dk_42 (dk_at dksX8_fault_1 4 rfl rfl)
theorem dX8_fault_27 : decode cX8_fault 27 = .ok (.invokevirtual 251, 3) := dk_182 0 251 (dk_at dksX8_fault_1 5 rfl rfl)
theorem dX8_fault_30 : decode cX8_fault 30 = .ok (.ifCond .ne 5, 3) := dk_154 0 5 (dk_at dksX8_fault_1 8 rfl rfl)
theorem dX8_fault_33 : decode cX8_fault 33 = .ok (.iload_n 1, 1) := dk_27 (dk_at dksX8_fault_1 11 rfl rfl)
theorem dX8_fault_34 : decode cX8_fault 34 = .ok (.ireturn, 1) := dk_172 (dk_at dksX8_fault_1 12 rfl rfl)
theorem dX8_fault_35 : decode cX8_fault 35 = .ok (.goto (-25), 3) := dk_167 255 231 (dk_at dksX8_fault_1 13 rfl rfl)
theorem dX8_fault_38 : decode cX8_fault 38 = .ok (.bipush (-4), 2) := dk_16 252 (dk_at dksX8_fault_1 16 rfl rfl)
theorem dX8_fault_40 : decode cX8_fault 40 = .ok (.ireturn, 1) := dk_172 (dk_at dksX8_fault_1 18 rfl rfl)
abbrev cX8_readsJob : ByteArray := prog_11_method_62_code
def yX8_readsJob : MethodName := ⟨RX8, "readsJob", "()Z"⟩
def dkwX8_readsJob_5 : List UInt8 := [4, 96, 181, 0, 245, 4, 172]
abbrev dktX8_readsJob_5 : List UInt8 := dkwX8_readsJob_5 ++ []
def dkwX8_readsJob_4 : List UInt8 := [7, 42, 180, 0, 245, 104, 27, 96, 42, 180, 0, 242, 79, 132, 1, 1, 167, 255, 180, 42, 89, 180, 0, 245]
abbrev dktX8_readsJob_4 : List UInt8 := dkwX8_readsJob_4 ++ dktX8_readsJob_5
def dkwX8_readsJob_3 : List UInt8 := [27, 6, 160, 0, 8, 16, 59, 167, 0, 5, 16, 44, 182, 0, 248, 154, 0, 5, 3, 172, 42, 180, 0, 80]
abbrev dktX8_readsJob_3 : List UInt8 := dkwX8_readsJob_3 ++ dktX8_readsJob_4
def dkwX8_readsJob_2 : List UInt8 := [167, 0, 4, 3, 27, 154, 0, 7, 6, 167, 0, 15, 27, 6, 160, 0, 8, 16, 9, 167, 0, 5, 16, 99]
abbrev dktX8_readsJob_2 : List UInt8 := dkwX8_readsJob_2 ++ dktX8_readsJob_3
def dkwX8_readsJob_1 : List UInt8 := [180, 0, 232, 4, 96, 181, 0, 232, 3, 60, 27, 7, 162, 0, 77, 42, 27, 6, 160, 0, 7, 4]
abbrev dktX8_readsJob_1 : List UInt8 := dkwX8_readsJob_1 ++ dktX8_readsJob_2
def dkwX8_readsJob_0 : List UInt8 := [42, 182, 0, 235, 16, 106, 160, 0, 12, 42, 180, 0, 245, 16, 12, 160, 0, 5, 3, 172, 42, 89]
abbrev dktX8_readsJob_0 : List UInt8 := dkwX8_readsJob_0 ++ dktX8_readsJob_1
theorem dksX8_readsJob_0 : cX8_readsJob.data.toList.drop 0 = dktX8_readsJob_0 := by decide +kernel
theorem dksX8_readsJob_1 : cX8_readsJob.data.toList.drop 22 = dktX8_readsJob_1 := dk_seg dksX8_readsJob_0 22 rfl rfl
theorem dksX8_readsJob_2 : cX8_readsJob.data.toList.drop 44 = dktX8_readsJob_2 := dk_seg dksX8_readsJob_1 22 rfl rfl
theorem dksX8_readsJob_3 : cX8_readsJob.data.toList.drop 68 = dktX8_readsJob_3 := dk_seg dksX8_readsJob_2 24 rfl rfl
theorem dksX8_readsJob_4 : cX8_readsJob.data.toList.drop 92 = dktX8_readsJob_4 := dk_seg dksX8_readsJob_3 24 rfl rfl
theorem dksX8_readsJob_5 : cX8_readsJob.data.toList.drop 116 = dktX8_readsJob_5 := dk_seg dksX8_readsJob_4 24 rfl rfl
theorem dX8_readsJob_0 : decode cX8_readsJob 0 = .ok (.aload_n 0, 1) := dk_42 (dk_at dksX8_readsJob_0 0 rfl rfl)
theorem dX8_readsJob_1 : decode cX8_readsJob 1 = .ok (.invokevirtual 235, 3) := dk_182 0 235 (dk_at dksX8_readsJob_0 1 rfl rfl)
theorem dX8_readsJob_4 : decode cX8_readsJob 4 = .ok (.bipush 106, 2) := dk_16 106 (dk_at dksX8_readsJob_0 4 rfl rfl)
theorem dX8_readsJob_6 : decode cX8_readsJob 6 = .ok (.if_icmp .ne 12, 3) := dk_160 0 12 (dk_at dksX8_readsJob_0 6 rfl rfl)
theorem dX8_readsJob_9 : decode cX8_readsJob 9 = .ok (.aload_n 0, 1) := dk_42 (dk_at dksX8_readsJob_0 9 rfl rfl)
theorem dX8_readsJob_10 : decode cX8_readsJob 10 = .ok (.getfield 245, 3) := dk_180 0 245 (dk_at dksX8_readsJob_0 10 rfl rfl)
theorem dX8_readsJob_13 : decode cX8_readsJob 13 = .ok (.bipush 12, 2) := dk_16 12 (dk_at dksX8_readsJob_0 13 rfl rfl)
theorem dX8_readsJob_15 : decode cX8_readsJob 15 = .ok (.if_icmp .ne 5, 3) := dk_160 0 5 (dk_at dksX8_readsJob_0 15 rfl rfl)
theorem dX8_readsJob_18 : decode cX8_readsJob 18 = .ok (.iconst 0, 1) := dk_3 (dk_at dksX8_readsJob_0 18 rfl rfl)
theorem dX8_readsJob_19 : decode cX8_readsJob 19 = .ok (.ireturn, 1) := dk_172 (dk_at dksX8_readsJob_0 19 rfl rfl)
theorem dX8_readsJob_20 : decode cX8_readsJob 20 = .ok (.aload_n 0, 1) := dk_42 (dk_at dksX8_readsJob_0 20 rfl rfl)
theorem dX8_readsJob_21 : decode cX8_readsJob 21 = .ok (.dup, 1) := dk_89 (dk_at dksX8_readsJob_0 21 rfl rfl)
theorem dX8_readsJob_22 : decode cX8_readsJob 22 = .ok (.getfield 232, 3) := dk_180 0 232 (dk_at dksX8_readsJob_1 0 rfl rfl)
theorem dX8_readsJob_25 : decode cX8_readsJob 25 = .ok (.iconst 1, 1) := dk_4 (dk_at dksX8_readsJob_1 3 rfl rfl)
theorem dX8_readsJob_26 : decode cX8_readsJob 26 = .ok (.iadd, 1) := dk_96 (dk_at dksX8_readsJob_1 4 rfl rfl)
theorem dX8_readsJob_27 : decode cX8_readsJob 27 = .ok (.putfield 232, 3) := dk_181 0 232 (dk_at dksX8_readsJob_1 5 rfl rfl)
theorem dX8_readsJob_30 : decode cX8_readsJob 30 = .ok (.iconst 0, 1) := dk_3 (dk_at dksX8_readsJob_1 8 rfl rfl)
theorem dX8_readsJob_31 : decode cX8_readsJob 31 = .ok (.istore_n 1, 1) := dk_60 (dk_at dksX8_readsJob_1 9 rfl rfl)
theorem dX8_readsJob_32 : decode cX8_readsJob 32 = .ok (.iload_n 1, 1) := dk_27 (dk_at dksX8_readsJob_1 10 rfl rfl)
theorem dX8_readsJob_33 : decode cX8_readsJob 33 = .ok (.iconst 4, 1) := dk_7 (dk_at dksX8_readsJob_1 11 rfl rfl)
theorem dX8_readsJob_34 : decode cX8_readsJob 34 = .ok (.if_icmp .ge 77, 3) := dk_162 0 77 (dk_at dksX8_readsJob_1 12 rfl rfl)
theorem dX8_readsJob_37 : decode cX8_readsJob 37 = .ok (.aload_n 0, 1) := dk_42 (dk_at dksX8_readsJob_1 15 rfl rfl)
theorem dX8_readsJob_38 : decode cX8_readsJob 38 = .ok (.iload_n 1, 1) := dk_27 (dk_at dksX8_readsJob_1 16 rfl rfl)
theorem dX8_readsJob_39 : decode cX8_readsJob 39 = .ok (.iconst 3, 1) := dk_6 (dk_at dksX8_readsJob_1 17 rfl rfl)
theorem dX8_readsJob_40 : decode cX8_readsJob 40 = .ok (.if_icmp .ne 7, 3) := dk_160 0 7 (dk_at dksX8_readsJob_1 18 rfl rfl)
theorem dX8_readsJob_43 : decode cX8_readsJob 43 = .ok (.iconst 1, 1) := dk_4 (dk_at dksX8_readsJob_1 21 rfl rfl)
theorem dX8_readsJob_44 : decode cX8_readsJob 44 = .ok (.goto 4, 3) := dk_167 0 4 (dk_at dksX8_readsJob_2 0 rfl rfl)
theorem dX8_readsJob_47 : decode cX8_readsJob 47 = .ok (.iconst 0, 1) := dk_3 (dk_at dksX8_readsJob_2 3 rfl rfl)
theorem dX8_readsJob_48 : decode cX8_readsJob 48 = .ok (.iload_n 1, 1) := dk_27 (dk_at dksX8_readsJob_2 4 rfl rfl)
theorem dX8_readsJob_49 : decode cX8_readsJob 49 = .ok (.ifCond .ne 7, 3) := dk_154 0 7 (dk_at dksX8_readsJob_2 5 rfl rfl)
theorem dX8_readsJob_52 : decode cX8_readsJob 52 = .ok (.iconst 3, 1) := dk_6 (dk_at dksX8_readsJob_2 8 rfl rfl)
theorem dX8_readsJob_53 : decode cX8_readsJob 53 = .ok (.goto 15, 3) := dk_167 0 15 (dk_at dksX8_readsJob_2 9 rfl rfl)
theorem dX8_readsJob_56 : decode cX8_readsJob 56 = .ok (.iload_n 1, 1) := dk_27 (dk_at dksX8_readsJob_2 12 rfl rfl)
theorem dX8_readsJob_57 : decode cX8_readsJob 57 = .ok (.iconst 3, 1) := dk_6 (dk_at dksX8_readsJob_2 13 rfl rfl)
theorem dX8_readsJob_58 : decode cX8_readsJob 58 = .ok (.if_icmp .ne 8, 3) := dk_160 0 8 (dk_at dksX8_readsJob_2 14 rfl rfl)
theorem dX8_readsJob_61 : decode cX8_readsJob 61 = .ok (.bipush 9, 2) := dk_16 9 (dk_at dksX8_readsJob_2 17 rfl rfl)
theorem dX8_readsJob_63 : decode cX8_readsJob 63 = .ok (.goto 5, 3) := dk_167 0 5 (dk_at dksX8_readsJob_2 19 rfl rfl)
theorem dX8_readsJob_66 : decode cX8_readsJob 66 = .ok (.bipush 99, 2) := dk_16 99 (dk_at dksX8_readsJob_2 22 rfl rfl)
theorem dX8_readsJob_68 : decode cX8_readsJob 68 = .ok (.iload_n 1, 1) := dk_27 (dk_at dksX8_readsJob_3 0 rfl rfl)
theorem dX8_readsJob_69 : decode cX8_readsJob 69 = .ok (.iconst 3, 1) := dk_6 (dk_at dksX8_readsJob_3 1 rfl rfl)
theorem dX8_readsJob_70 : decode cX8_readsJob 70 = .ok (.if_icmp .ne 8, 3) := dk_160 0 8 (dk_at dksX8_readsJob_3 2 rfl rfl)
theorem dX8_readsJob_73 : decode cX8_readsJob 73 = .ok (.bipush 59, 2) := dk_16 59 (dk_at dksX8_readsJob_3 5 rfl rfl)
theorem dX8_readsJob_75 : decode cX8_readsJob 75 = .ok (.goto 5, 3) := dk_167 0 5 (dk_at dksX8_readsJob_3 7 rfl rfl)
theorem dX8_readsJob_78 : decode cX8_readsJob 78 = .ok (.bipush 44, 2) := dk_16 44 (dk_at dksX8_readsJob_3 10 rfl rfl)
theorem dX8_readsJob_80 : decode cX8_readsJob 80 = .ok (.invokevirtual 248, 3) := dk_182 0 248 (dk_at dksX8_readsJob_3 12 rfl rfl)
theorem dX8_readsJob_83 : decode cX8_readsJob 83 = .ok (.ifCond .ne 5, 3) := dk_154 0 5 (dk_at dksX8_readsJob_3 15 rfl rfl)
theorem dX8_readsJob_86 : decode cX8_readsJob 86 = .ok (.iconst 0, 1) := dk_3 (dk_at dksX8_readsJob_3 18 rfl rfl)
theorem dX8_readsJob_87 : decode cX8_readsJob 87 = .ok (.ireturn, 1) := dk_172 (dk_at dksX8_readsJob_3 19 rfl rfl)
theorem dX8_readsJob_88 : decode cX8_readsJob 88 = .ok (.aload_n 0, 1) := dk_42 (dk_at dksX8_readsJob_3 20 rfl rfl)
theorem dX8_readsJob_89 : decode cX8_readsJob 89 = .ok (.getfield 80, 3) := dk_180 0 80 (dk_at dksX8_readsJob_3 21 rfl rfl)
theorem dX8_readsJob_92 : decode cX8_readsJob 92 = .ok (.iconst 4, 1) := dk_7 (dk_at dksX8_readsJob_4 0 rfl rfl)
theorem dX8_readsJob_93 : decode cX8_readsJob 93 = .ok (.aload_n 0, 1) := dk_42 (dk_at dksX8_readsJob_4 1 rfl rfl)
theorem dX8_readsJob_94 : decode cX8_readsJob 94 = .ok (.getfield 245, 3) := dk_180 0 245 (dk_at dksX8_readsJob_4 2 rfl rfl)
theorem dX8_readsJob_97 : decode cX8_readsJob 97 = .ok (.imul, 1) := dk_104 (dk_at dksX8_readsJob_4 5 rfl rfl)
theorem dX8_readsJob_98 : decode cX8_readsJob 98 = .ok (.iload_n 1, 1) := dk_27 (dk_at dksX8_readsJob_4 6 rfl rfl)
theorem dX8_readsJob_99 : decode cX8_readsJob 99 = .ok (.iadd, 1) := dk_96 (dk_at dksX8_readsJob_4 7 rfl rfl)
theorem dX8_readsJob_100 : decode cX8_readsJob 100 = .ok (.aload_n 0, 1) := dk_42 (dk_at dksX8_readsJob_4 8 rfl rfl)
theorem dX8_readsJob_101 : decode cX8_readsJob 101 = .ok (.getfield 242, 3) := dk_180 0 242 (dk_at dksX8_readsJob_4 9 rfl rfl)
theorem dX8_readsJob_104 : decode cX8_readsJob 104 = .ok (.iastore, 1) := dk_79 (dk_at dksX8_readsJob_4 12 rfl rfl)
theorem dX8_readsJob_105 : decode cX8_readsJob 105 = .ok (.iinc 1 1, 3) := dk_132 1 1 (dk_at dksX8_readsJob_4 13 rfl rfl)
theorem dX8_readsJob_108 : decode cX8_readsJob 108 = .ok (.goto (-76), 3) := dk_167 255 180 (dk_at dksX8_readsJob_4 16 rfl rfl)
theorem dX8_readsJob_111 : decode cX8_readsJob 111 = .ok (.aload_n 0, 1) := dk_42 (dk_at dksX8_readsJob_4 19 rfl rfl)
theorem dX8_readsJob_112 : decode cX8_readsJob 112 = .ok (.dup, 1) := dk_89 (dk_at dksX8_readsJob_4 20 rfl rfl)
theorem dX8_readsJob_113 : decode cX8_readsJob 113 = .ok (.getfield 245, 3) := dk_180 0 245 (dk_at dksX8_readsJob_4 21 rfl rfl)
theorem dX8_readsJob_116 : decode cX8_readsJob 116 = .ok (.iconst 1, 1) := dk_4 (dk_at dksX8_readsJob_5 0 rfl rfl)
theorem dX8_readsJob_117 : decode cX8_readsJob 117 = .ok (.iadd, 1) := dk_96 (dk_at dksX8_readsJob_5 1 rfl rfl)
theorem dX8_readsJob_118 : decode cX8_readsJob 118 = .ok (.putfield 245, 3) := dk_181 0 245 (dk_at dksX8_readsJob_5 2 rfl rfl)
theorem dX8_readsJob_121 : decode cX8_readsJob 121 = .ok (.iconst 1, 1) := dk_4 (dk_at dksX8_readsJob_5 5 rfl rfl)
theorem dX8_readsJob_122 : decode cX8_readsJob 122 = .ok (.ireturn, 1) := dk_172 (dk_at dksX8_readsJob_5 6 rfl rfl)
abbrev cX8_here : ByteArray := prog_11_method_59_code
def yX8_here : MethodName := ⟨RX8, "here", "()I"⟩
def dkwX8_here_1 : List UInt8 := [172]
abbrev dktX8_here_1 : List UInt8 := dkwX8_here_1 ++ []
def dkwX8_here_0 : List UInt8 := [42, 180, 0, 232, 42, 180, 0, 229, 162, 0, 15, 42, 180, 0, 77, 42, 180, 0, 232, 46, 167, 0, 4, 3]
abbrev dktX8_here_0 : List UInt8 := dkwX8_here_0 ++ dktX8_here_1
theorem dksX8_here_0 : cX8_here.data.toList.drop 0 = dktX8_here_0 := by decide +kernel
theorem dksX8_here_1 : cX8_here.data.toList.drop 24 = dktX8_here_1 := dk_seg dksX8_here_0 24 rfl rfl
theorem dX8_here_0 : decode cX8_here 0 = .ok (.aload_n 0, 1) := dk_42 (dk_at dksX8_here_0 0 rfl rfl)
theorem dX8_here_1 : decode cX8_here 1 = .ok (.getfield 232, 3) := dk_180 0 232 (dk_at dksX8_here_0 1 rfl rfl)
theorem dX8_here_4 : decode cX8_here 4 = .ok (.aload_n 0, 1) := dk_42 (dk_at dksX8_here_0 4 rfl rfl)
theorem dX8_here_5 : decode cX8_here 5 = .ok (.getfield 229, 3) := dk_180 0 229 (dk_at dksX8_here_0 5 rfl rfl)
theorem dX8_here_8 : decode cX8_here 8 = .ok (.if_icmp .ge 15, 3) := dk_162 0 15 (dk_at dksX8_here_0 8 rfl rfl)
theorem dX8_here_11 : decode cX8_here 11 = .ok (.aload_n 0, 1) := dk_42 (dk_at dksX8_here_0 11 rfl rfl)
theorem dX8_here_12 : decode cX8_here 12 = .ok (.getfield 77, 3) := dk_180 0 77 (dk_at dksX8_here_0 12 rfl rfl)
theorem dX8_here_15 : decode cX8_here 15 = .ok (.aload_n 0, 1) := dk_42 (dk_at dksX8_here_0 15 rfl rfl)
theorem dX8_here_16 : decode cX8_here 16 = .ok (.getfield 232, 3) := dk_180 0 232 (dk_at dksX8_here_0 16 rfl rfl)
theorem dX8_here_19 : decode cX8_here 19 = .ok (.iaload, 1) := dk_46 (dk_at dksX8_here_0 19 rfl rfl)
theorem dX8_here_20 : decode cX8_here 20 = .ok (.goto 4, 3) := dk_167 0 4 (dk_at dksX8_here_0 20 rfl rfl)
theorem dX8_here_23 : decode cX8_here 23 = .ok (.iconst 0, 1) := dk_3 (dk_at dksX8_here_0 23 rfl rfl)
theorem dX8_here_24 : decode cX8_here 24 = .ok (.ireturn, 1) := dk_172 (dk_at dksX8_here_1 0 rfl rfl)
abbrev cX8_number : ByteArray := prog_11_method_61_code
def yX8_number : MethodName := ⟨RX8, "number", "(III)Z"⟩
def dkwX8_number_4 : List UInt8 := [181, 0, 232, 4, 172]
abbrev dktX8_number_4 : List UInt8 := dkwX8_number_4 ++ []
def dkwX8_number_3 : List UInt8 := [160, 0, 13, 21, 4, 27, 28, 184, 0, 93, 154, 0, 5, 3, 172, 42, 89, 180, 0, 232, 4, 96]
abbrev dktX8_number_3 : List UInt8 := dkwX8_number_3 ++ dktX8_number_4
def dkwX8_number_2 : List UInt8 := [54, 4, 42, 89, 180, 0, 232, 4, 96, 181, 0, 232, 42, 21, 4, 181, 0, 242, 42, 182, 0, 235, 29]
abbrev dktX8_number_2 : List UInt8 := dkwX8_number_2 ++ dktX8_number_3
def dkwX8_number_1 : List UInt8 := [96, 181, 0, 232, 42, 182, 0, 238, 153, 0, 28, 16, 10, 21, 4, 104, 42, 182, 0, 235, 96, 16, 48, 100]
abbrev dktX8_number_1 : List UInt8 := dkwX8_number_1 ++ dktX8_number_2
def dkwX8_number_0 : List UInt8 := [42, 182, 0, 238, 154, 0, 5, 3, 172, 42, 182, 0, 235, 16, 48, 100, 54, 4, 42, 89, 180, 0, 232, 4]
abbrev dktX8_number_0 : List UInt8 := dkwX8_number_0 ++ dktX8_number_1
theorem dksX8_number_0 : cX8_number.data.toList.drop 0 = dktX8_number_0 := by decide +kernel
theorem dksX8_number_1 : cX8_number.data.toList.drop 24 = dktX8_number_1 := dk_seg dksX8_number_0 24 rfl rfl
theorem dksX8_number_2 : cX8_number.data.toList.drop 48 = dktX8_number_2 := dk_seg dksX8_number_1 24 rfl rfl
theorem dksX8_number_3 : cX8_number.data.toList.drop 71 = dktX8_number_3 := dk_seg dksX8_number_2 23 rfl rfl
theorem dksX8_number_4 : cX8_number.data.toList.drop 93 = dktX8_number_4 := dk_seg dksX8_number_3 22 rfl rfl
theorem dX8_number_0 : decode cX8_number 0 = .ok (.aload_n 0, 1) := dk_42 (dk_at dksX8_number_0 0 rfl rfl)
theorem dX8_number_1 : decode cX8_number 1 = .ok (.invokevirtual 238, 3) := dk_182 0 238 (dk_at dksX8_number_0 1 rfl rfl)
theorem dX8_number_4 : decode cX8_number 4 = .ok (.ifCond .ne 5, 3) := dk_154 0 5 (dk_at dksX8_number_0 4 rfl rfl)
theorem dX8_number_7 : decode cX8_number 7 = .ok (.iconst 0, 1) := dk_3 (dk_at dksX8_number_0 7 rfl rfl)
theorem dX8_number_8 : decode cX8_number 8 = .ok (.ireturn, 1) := dk_172 (dk_at dksX8_number_0 8 rfl rfl)
theorem dX8_number_9 : decode cX8_number 9 = .ok (.aload_n 0, 1) := dk_42 (dk_at dksX8_number_0 9 rfl rfl)
theorem dX8_number_10 : decode cX8_number 10 = .ok (.invokevirtual 235, 3) := dk_182 0 235 (dk_at dksX8_number_0 10 rfl rfl)
theorem dX8_number_13 : decode cX8_number 13 = .ok (.bipush 48, 2) := dk_16 48 (dk_at dksX8_number_0 13 rfl rfl)
theorem dX8_number_15 : decode cX8_number 15 = .ok (.isub, 1) := dk_100 (dk_at dksX8_number_0 15 rfl rfl)
theorem dX8_number_16 : decode cX8_number 16 = .ok (.istore 4, 2) := dk_54 4 (dk_at dksX8_number_0 16 rfl rfl)
theorem dX8_number_18 : decode cX8_number 18 = .ok (.aload_n 0, 1) := dk_42 (dk_at dksX8_number_0 18 rfl rfl)
theorem dX8_number_19 : decode cX8_number 19 = .ok (.dup, 1) := dk_89 (dk_at dksX8_number_0 19 rfl rfl)
theorem dX8_number_20 : decode cX8_number 20 = .ok (.getfield 232, 3) := dk_180 0 232 (dk_at dksX8_number_0 20 rfl rfl)
theorem dX8_number_23 : decode cX8_number 23 = .ok (.iconst 1, 1) := dk_4 (dk_at dksX8_number_0 23 rfl rfl)
theorem dX8_number_24 : decode cX8_number 24 = .ok (.iadd, 1) := dk_96 (dk_at dksX8_number_1 0 rfl rfl)
theorem dX8_number_25 : decode cX8_number 25 = .ok (.putfield 232, 3) := dk_181 0 232 (dk_at dksX8_number_1 1 rfl rfl)
theorem dX8_number_28 : decode cX8_number 28 = .ok (.aload_n 0, 1) := dk_42 (dk_at dksX8_number_1 4 rfl rfl)
theorem dX8_number_29 : decode cX8_number 29 = .ok (.invokevirtual 238, 3) := dk_182 0 238 (dk_at dksX8_number_1 5 rfl rfl)
theorem dX8_number_32 : decode cX8_number 32 = .ok (.ifCond .eq 28, 3) := dk_153 0 28 (dk_at dksX8_number_1 8 rfl rfl)
theorem dX8_number_35 : decode cX8_number 35 = .ok (.bipush 10, 2) := dk_16 10 (dk_at dksX8_number_1 11 rfl rfl)
theorem dX8_number_37 : decode cX8_number 37 = .ok (.iload 4, 2) := dk_21 4 (dk_at dksX8_number_1 13 rfl rfl)
theorem dX8_number_39 : decode cX8_number 39 = .ok (.imul, 1) := dk_104 (dk_at dksX8_number_1 15 rfl rfl)
theorem dX8_number_40 : decode cX8_number 40 = .ok (.aload_n 0, 1) := dk_42 (dk_at dksX8_number_1 16 rfl rfl)
theorem dX8_number_41 : decode cX8_number 41 = .ok (.invokevirtual 235, 3) := dk_182 0 235 (dk_at dksX8_number_1 17 rfl rfl)
theorem dX8_number_44 : decode cX8_number 44 = .ok (.iadd, 1) := dk_96 (dk_at dksX8_number_1 20 rfl rfl)
theorem dX8_number_45 : decode cX8_number 45 = .ok (.bipush 48, 2) := dk_16 48 (dk_at dksX8_number_1 21 rfl rfl)
theorem dX8_number_47 : decode cX8_number 47 = .ok (.isub, 1) := dk_100 (dk_at dksX8_number_1 23 rfl rfl)
theorem dX8_number_48 : decode cX8_number 48 = .ok (.istore 4, 2) := dk_54 4 (dk_at dksX8_number_2 0 rfl rfl)
theorem dX8_number_50 : decode cX8_number 50 = .ok (.aload_n 0, 1) := dk_42 (dk_at dksX8_number_2 2 rfl rfl)
theorem dX8_number_51 : decode cX8_number 51 = .ok (.dup, 1) := dk_89 (dk_at dksX8_number_2 3 rfl rfl)
theorem dX8_number_52 : decode cX8_number 52 = .ok (.getfield 232, 3) := dk_180 0 232 (dk_at dksX8_number_2 4 rfl rfl)
theorem dX8_number_55 : decode cX8_number 55 = .ok (.iconst 1, 1) := dk_4 (dk_at dksX8_number_2 7 rfl rfl)
theorem dX8_number_56 : decode cX8_number 56 = .ok (.iadd, 1) := dk_96 (dk_at dksX8_number_2 8 rfl rfl)
theorem dX8_number_57 : decode cX8_number 57 = .ok (.putfield 232, 3) := dk_181 0 232 (dk_at dksX8_number_2 9 rfl rfl)
theorem dX8_number_60 : decode cX8_number 60 = .ok (.aload_n 0, 1) := dk_42 (dk_at dksX8_number_2 12 rfl rfl)
theorem dX8_number_61 : decode cX8_number 61 = .ok (.iload 4, 2) := dk_21 4 (dk_at dksX8_number_2 13 rfl rfl)
theorem dX8_number_63 : decode cX8_number 63 = .ok (.putfield 242, 3) := dk_181 0 242 (dk_at dksX8_number_2 15 rfl rfl)
theorem dX8_number_66 : decode cX8_number 66 = .ok (.aload_n 0, 1) := dk_42 (dk_at dksX8_number_2 18 rfl rfl)
theorem dX8_number_67 : decode cX8_number 67 = .ok (.invokevirtual 235, 3) := dk_182 0 235 (dk_at dksX8_number_2 19 rfl rfl)
theorem dX8_number_70 : decode cX8_number 70 = .ok (.iload_n 3, 1) := dk_29 (dk_at dksX8_number_2 22 rfl rfl)
theorem dX8_number_71 : decode cX8_number 71 = .ok (.if_icmp .ne 13, 3) := dk_160 0 13 (dk_at dksX8_number_3 0 rfl rfl)
theorem dX8_number_74 : decode cX8_number 74 = .ok (.iload 4, 2) := dk_21 4 (dk_at dksX8_number_3 3 rfl rfl)
theorem dX8_number_76 : decode cX8_number 76 = .ok (.iload_n 1, 1) := dk_27 (dk_at dksX8_number_3 5 rfl rfl)
theorem dX8_number_77 : decode cX8_number 77 = .ok (.iload_n 2, 1) := dk_28 (dk_at dksX8_number_3 6 rfl rfl)
theorem dX8_number_78 : decode cX8_number 78 = .ok (.invokestatic 93, 3) := dk_184 0 93 (dk_at dksX8_number_3 7 rfl rfl)
theorem dX8_number_81 : decode cX8_number 81 = .ok (.ifCond .ne 5, 3) := dk_154 0 5 (dk_at dksX8_number_3 10 rfl rfl)
theorem dX8_number_84 : decode cX8_number 84 = .ok (.iconst 0, 1) := dk_3 (dk_at dksX8_number_3 13 rfl rfl)
theorem dX8_number_85 : decode cX8_number 85 = .ok (.ireturn, 1) := dk_172 (dk_at dksX8_number_3 14 rfl rfl)
theorem dX8_number_86 : decode cX8_number 86 = .ok (.aload_n 0, 1) := dk_42 (dk_at dksX8_number_3 15 rfl rfl)
theorem dX8_number_87 : decode cX8_number 87 = .ok (.dup, 1) := dk_89 (dk_at dksX8_number_3 16 rfl rfl)
theorem dX8_number_88 : decode cX8_number 88 = .ok (.getfield 232, 3) := dk_180 0 232 (dk_at dksX8_number_3 17 rfl rfl)
theorem dX8_number_91 : decode cX8_number 91 = .ok (.iconst 1, 1) := dk_4 (dk_at dksX8_number_3 20 rfl rfl)
theorem dX8_number_92 : decode cX8_number 92 = .ok (.iadd, 1) := dk_96 (dk_at dksX8_number_3 21 rfl rfl)
theorem dX8_number_93 : decode cX8_number 93 = .ok (.putfield 232, 3) := dk_181 0 232 (dk_at dksX8_number_4 0 rfl rfl)
theorem dX8_number_96 : decode cX8_number 96 = .ok (.iconst 1, 1) := dk_4 (dk_at dksX8_number_4 3 rfl rfl)
theorem dX8_number_97 : decode cX8_number 97 = .ok (.ireturn, 1) := dk_172 (dk_at dksX8_number_4 4 rfl rfl)
abbrev cX8_isFigure : ByteArray := prog_11_method_60_code
def yX8_isFigure : MethodName := ⟨RX8, "isFigure", "()Z"⟩
def dkwX8_isFigure_0 : List UInt8 := [42, 182, 0, 235, 16, 48, 16, 57, 184, 0, 93, 172]
abbrev dktX8_isFigure_0 : List UInt8 := dkwX8_isFigure_0 ++ []
theorem dksX8_isFigure_0 : cX8_isFigure.data.toList.drop 0 = dktX8_isFigure_0 := by decide +kernel
theorem dX8_isFigure_0 : decode cX8_isFigure 0 = .ok (.aload_n 0, 1) := dk_42 (dk_at dksX8_isFigure_0 0 rfl rfl)
theorem dX8_isFigure_1 : decode cX8_isFigure 1 = .ok (.invokevirtual 235, 3) := dk_182 0 235 (dk_at dksX8_isFigure_0 1 rfl rfl)
theorem dX8_isFigure_4 : decode cX8_isFigure 4 = .ok (.bipush 48, 2) := dk_16 48 (dk_at dksX8_isFigure_0 4 rfl rfl)
theorem dX8_isFigure_6 : decode cX8_isFigure 6 = .ok (.bipush 57, 2) := dk_16 57 (dk_at dksX8_isFigure_0 6 rfl rfl)
theorem dX8_isFigure_8 : decode cX8_isFigure 8 = .ok (.invokestatic 93, 3) := dk_184 0 93 (dk_at dksX8_isFigure_0 8 rfl rfl)
theorem dX8_isFigure_11 : decode cX8_isFigure 11 = .ok (.ireturn, 1) := dk_172 (dk_at dksX8_isFigure_0 11 rfl rfl)
abbrev cX8_lay : ByteArray := prog_11_method_64_code
def yX8_lay : MethodName := ⟨RX8, "lay", "()I"⟩
def dkwX8_lay_4 : List UInt8 := [172]
abbrev dktX8_lay_4 : List UInt8 := dkwX8_lay_4 ++ []
def dkwX8_lay_3 : List UInt8 := [182, 0, 86, 87, 132, 1, 1, 167, 255, 202, 42, 3, 181, 0, 171, 42, 3, 181, 0, 196, 42, 182, 0, 181]
abbrev dktX8_lay_3 : List UInt8 := dkwX8_lay_3 ++ dktX8_lay_4
def dkwX8_lay_2 : List UInt8 := [104, 4, 96, 46, 42, 180, 0, 80, 7, 27, 104, 5, 96, 46, 42, 180, 0, 80, 7, 27, 104, 6, 96, 46]
abbrev dktX8_lay_2 : List UInt8 := dkwX8_lay_2 ++ dktX8_lay_3
def dkwX8_lay_1 : List UInt8 := [60, 27, 42, 180, 0, 245, 162, 0, 52, 42, 42, 180, 0, 80, 7, 27, 104, 46, 42, 180, 0, 80, 7, 27]
abbrev dktX8_lay_1 : List UInt8 := dkwX8_lay_1 ++ dktX8_lay_2
def dkwX8_lay_0 : List UInt8 := [42, 182, 0, 254, 16, 252, 160, 0, 10, 42, 180, 0, 245, 154, 0, 6, 16, 254, 172, 42, 182, 0, 83, 3]
abbrev dktX8_lay_0 : List UInt8 := dkwX8_lay_0 ++ dktX8_lay_1
theorem dksX8_lay_0 : cX8_lay.data.toList.drop 0 = dktX8_lay_0 := by decide +kernel
theorem dksX8_lay_1 : cX8_lay.data.toList.drop 24 = dktX8_lay_1 := dk_seg dksX8_lay_0 24 rfl rfl
theorem dksX8_lay_2 : cX8_lay.data.toList.drop 48 = dktX8_lay_2 := dk_seg dksX8_lay_1 24 rfl rfl
theorem dksX8_lay_3 : cX8_lay.data.toList.drop 72 = dktX8_lay_3 := dk_seg dksX8_lay_2 24 rfl rfl
theorem dksX8_lay_4 : cX8_lay.data.toList.drop 96 = dktX8_lay_4 := dk_seg dksX8_lay_3 24 rfl rfl
theorem dX8_lay_0 : decode cX8_lay 0 = .ok (.aload_n 0, 1) := dk_42 (dk_at dksX8_lay_0 0 rfl rfl)
theorem dX8_lay_1 : decode cX8_lay 1 = .ok (.invokevirtual 254, 3) := dk_182 0 254 (dk_at dksX8_lay_0 1 rfl rfl)
theorem dX8_lay_4 : decode cX8_lay 4 = .ok (.bipush (-4), 2) := dk_16 252 (dk_at dksX8_lay_0 4 rfl rfl)
theorem dX8_lay_6 : decode cX8_lay 6 = .ok (.if_icmp .ne 10, 3) := dk_160 0 10 (dk_at dksX8_lay_0 6 rfl rfl)
theorem dX8_lay_9 : decode cX8_lay 9 = .ok (.aload_n 0, 1) := dk_42 (dk_at dksX8_lay_0 9 rfl rfl)
theorem dX8_lay_10 : decode cX8_lay 10 = .ok (.getfield 245, 3) := dk_180 0 245 (dk_at dksX8_lay_0 10 rfl rfl)
theorem dX8_lay_13 : decode cX8_lay 13 = .ok (.ifCond .ne 6, 3) := dk_154 0 6 (dk_at dksX8_lay_0 13 rfl rfl)
theorem dX8_lay_16 : decode cX8_lay 16 = .ok (.bipush (-2), 2) := dk_16 254 (dk_at dksX8_lay_0 16 rfl rfl)
theorem dX8_lay_18 : decode cX8_lay 18 = .ok (.ireturn, 1) := dk_172 (dk_at dksX8_lay_0 18 rfl rfl)
theorem dX8_lay_19 : decode cX8_lay 19 = .ok (.aload_n 0, 1) := dk_42 (dk_at dksX8_lay_0 19 rfl rfl)
theorem dX8_lay_20 : decode cX8_lay 20 = .ok (.invokevirtual 83, 3) := dk_182 0 83 (dk_at dksX8_lay_0 20 rfl rfl)
theorem dX8_lay_23 : decode cX8_lay 23 = .ok (.iconst 0, 1) := dk_3 (dk_at dksX8_lay_0 23 rfl rfl)
theorem dX8_lay_24 : decode cX8_lay 24 = .ok (.istore_n 1, 1) := dk_60 (dk_at dksX8_lay_1 0 rfl rfl)
theorem dX8_lay_25 : decode cX8_lay 25 = .ok (.iload_n 1, 1) := dk_27 (dk_at dksX8_lay_1 1 rfl rfl)
theorem dX8_lay_26 : decode cX8_lay 26 = .ok (.aload_n 0, 1) := dk_42 (dk_at dksX8_lay_1 2 rfl rfl)
theorem dX8_lay_27 : decode cX8_lay 27 = .ok (.getfield 245, 3) := dk_180 0 245 (dk_at dksX8_lay_1 3 rfl rfl)
theorem dX8_lay_30 : decode cX8_lay 30 = .ok (.if_icmp .ge 52, 3) := dk_162 0 52 (dk_at dksX8_lay_1 6 rfl rfl)
theorem dX8_lay_33 : decode cX8_lay 33 = .ok (.aload_n 0, 1) := dk_42 (dk_at dksX8_lay_1 9 rfl rfl)
theorem dX8_lay_34 : decode cX8_lay 34 = .ok (.aload_n 0, 1) := dk_42 (dk_at dksX8_lay_1 10 rfl rfl)
theorem dX8_lay_35 : decode cX8_lay 35 = .ok (.getfield 80, 3) := dk_180 0 80 (dk_at dksX8_lay_1 11 rfl rfl)
theorem dX8_lay_38 : decode cX8_lay 38 = .ok (.iconst 4, 1) := dk_7 (dk_at dksX8_lay_1 14 rfl rfl)
theorem dX8_lay_39 : decode cX8_lay 39 = .ok (.iload_n 1, 1) := dk_27 (dk_at dksX8_lay_1 15 rfl rfl)
theorem dX8_lay_40 : decode cX8_lay 40 = .ok (.imul, 1) := dk_104 (dk_at dksX8_lay_1 16 rfl rfl)
theorem dX8_lay_41 : decode cX8_lay 41 = .ok (.iaload, 1) := dk_46 (dk_at dksX8_lay_1 17 rfl rfl)
theorem dX8_lay_42 : decode cX8_lay 42 = .ok (.aload_n 0, 1) := dk_42 (dk_at dksX8_lay_1 18 rfl rfl)
theorem dX8_lay_43 : decode cX8_lay 43 = .ok (.getfield 80, 3) := dk_180 0 80 (dk_at dksX8_lay_1 19 rfl rfl)
theorem dX8_lay_46 : decode cX8_lay 46 = .ok (.iconst 4, 1) := dk_7 (dk_at dksX8_lay_1 22 rfl rfl)
theorem dX8_lay_47 : decode cX8_lay 47 = .ok (.iload_n 1, 1) := dk_27 (dk_at dksX8_lay_1 23 rfl rfl)
theorem dX8_lay_48 : decode cX8_lay 48 = .ok (.imul, 1) := dk_104 (dk_at dksX8_lay_2 0 rfl rfl)
theorem dX8_lay_49 : decode cX8_lay 49 = .ok (.iconst 1, 1) := dk_4 (dk_at dksX8_lay_2 1 rfl rfl)
theorem dX8_lay_50 : decode cX8_lay 50 = .ok (.iadd, 1) := dk_96 (dk_at dksX8_lay_2 2 rfl rfl)
theorem dX8_lay_51 : decode cX8_lay 51 = .ok (.iaload, 1) := dk_46 (dk_at dksX8_lay_2 3 rfl rfl)
theorem dX8_lay_52 : decode cX8_lay 52 = .ok (.aload_n 0, 1) := dk_42 (dk_at dksX8_lay_2 4 rfl rfl)
theorem dX8_lay_53 : decode cX8_lay 53 = .ok (.getfield 80, 3) := dk_180 0 80 (dk_at dksX8_lay_2 5 rfl rfl)
theorem dX8_lay_56 : decode cX8_lay 56 = .ok (.iconst 4, 1) := dk_7 (dk_at dksX8_lay_2 8 rfl rfl)
theorem dX8_lay_57 : decode cX8_lay 57 = .ok (.iload_n 1, 1) := dk_27 (dk_at dksX8_lay_2 9 rfl rfl)
theorem dX8_lay_58 : decode cX8_lay 58 = .ok (.imul, 1) := dk_104 (dk_at dksX8_lay_2 10 rfl rfl)
theorem dX8_lay_59 : decode cX8_lay 59 = .ok (.iconst 2, 1) := dk_5 (dk_at dksX8_lay_2 11 rfl rfl)
theorem dX8_lay_60 : decode cX8_lay 60 = .ok (.iadd, 1) := dk_96 (dk_at dksX8_lay_2 12 rfl rfl)
theorem dX8_lay_61 : decode cX8_lay 61 = .ok (.iaload, 1) := dk_46 (dk_at dksX8_lay_2 13 rfl rfl)
theorem dX8_lay_62 : decode cX8_lay 62 = .ok (.aload_n 0, 1) := dk_42 (dk_at dksX8_lay_2 14 rfl rfl)
theorem dX8_lay_63 : decode cX8_lay 63 = .ok (.getfield 80, 3) := dk_180 0 80 (dk_at dksX8_lay_2 15 rfl rfl)
theorem dX8_lay_66 : decode cX8_lay 66 = .ok (.iconst 4, 1) := dk_7 (dk_at dksX8_lay_2 18 rfl rfl)
theorem dX8_lay_67 : decode cX8_lay 67 = .ok (.iload_n 1, 1) := dk_27 (dk_at dksX8_lay_2 19 rfl rfl)
theorem dX8_lay_68 : decode cX8_lay 68 = .ok (.imul, 1) := dk_104 (dk_at dksX8_lay_2 20 rfl rfl)
theorem dX8_lay_69 : decode cX8_lay 69 = .ok (.iconst 3, 1) := dk_6 (dk_at dksX8_lay_2 21 rfl rfl)
theorem dX8_lay_70 : decode cX8_lay 70 = .ok (.iadd, 1) := dk_96 (dk_at dksX8_lay_2 22 rfl rfl)
theorem dX8_lay_71 : decode cX8_lay 71 = .ok (.iaload, 1) := dk_46 (dk_at dksX8_lay_2 23 rfl rfl)
theorem dX8_lay_72 : decode cX8_lay 72 = .ok (.invokevirtual 86, 3) := dk_182 0 86 (dk_at dksX8_lay_3 0 rfl rfl)
theorem dX8_lay_75 : decode cX8_lay 75 = .ok (.pop, 1) := dk_87 (dk_at dksX8_lay_3 3 rfl rfl)
theorem dX8_lay_76 : decode cX8_lay 76 = .ok (.iinc 1 1, 3) := dk_132 1 1 (dk_at dksX8_lay_3 4 rfl rfl)
theorem dX8_lay_79 : decode cX8_lay 79 = .ok (.goto (-54), 3) := dk_167 255 202 (dk_at dksX8_lay_3 7 rfl rfl)
theorem dX8_lay_82 : decode cX8_lay 82 = .ok (.aload_n 0, 1) := dk_42 (dk_at dksX8_lay_3 10 rfl rfl)
theorem dX8_lay_83 : decode cX8_lay 83 = .ok (.iconst 0, 1) := dk_3 (dk_at dksX8_lay_3 11 rfl rfl)
theorem dX8_lay_84 : decode cX8_lay 84 = .ok (.putfield 171, 3) := dk_181 0 171 (dk_at dksX8_lay_3 12 rfl rfl)
theorem dX8_lay_87 : decode cX8_lay 87 = .ok (.aload_n 0, 1) := dk_42 (dk_at dksX8_lay_3 15 rfl rfl)
theorem dX8_lay_88 : decode cX8_lay 88 = .ok (.iconst 0, 1) := dk_3 (dk_at dksX8_lay_3 16 rfl rfl)
theorem dX8_lay_89 : decode cX8_lay 89 = .ok (.putfield 196, 3) := dk_181 0 196 (dk_at dksX8_lay_3 17 rfl rfl)
theorem dX8_lay_92 : decode cX8_lay 92 = .ok (.aload_n 0, 1) := dk_42 (dk_at dksX8_lay_3 20 rfl rfl)
theorem dX8_lay_93 : decode cX8_lay 93 = .ok (.invokevirtual 181, 3) := dk_182 0 181 (dk_at dksX8_lay_3 21 rfl rfl)
theorem dX8_lay_96 : decode cX8_lay 96 = .ok (.ireturn, 1) := dk_172 (dk_at dksX8_lay_4 0 rfl rfl)
theorem q88 : (Jvm.Cond.initialized "DeadlineTreeModel") ∈ lw_all := lw_g (lw_at lw_m1 19 rfl) rfl
theorem q817 : (Jvm.Cond.instantiable "DeadlineTreeModel" (33 : Nat)) ∈ lw_all := lw_g (lw_at lw_m4 28 rfl) rfl
theorem q819 : (Jvm.Cond.instanceMethod ({ cls := "DeadlineTreeModel", name := "<init>", desc := "()V" } : Jvm.MethodName)) ∈ lw_all := lw_g (lw_at lw_m4 30 rfl) rfl
theorem q820 : (Jvm.Cond.code ({ cls := "DeadlineTreeModel", name := "<init>", desc := "()V" } : Jvm.MethodName) prog_11_method_3_code (1 : Nat) (Option.none : Option Jvm.ClassFile.FieldType)) ∈ lw_all := lw_g (lw_at lw_m4 31 rfl) rfl
theorem q821 : (Jvm.Cond.methodLink "DeadlineTreeModel" (1 : Nat) ({ cls := "java/lang/Object", name := "<init>", desc := "()V" } : Jvm.MethodName)) ∈ lw_all := lw_g (lw_at lw_m4 32 rfl) rfl
theorem q822 : (Jvm.Cond.methodLink "DeadlineTreeModel" (83 : Nat) ({ cls := "DeadlineTreeModel", name := "empties", desc := "()V" } : Jvm.MethodName)) ∈ lw_all := lw_g (lw_at lw_m4 33 rfl) rfl
theorem q823 : (Jvm.Cond.privateMethod ({ cls := "DeadlineTreeModel", name := "empties", desc := "()V" } : Jvm.MethodName)) ∈ lw_tbl := lw_at lw_m4 34 rfl
theorem q824 : (Jvm.Cond.instanceMethod ({ cls := "DeadlineTreeModel", name := "empties", desc := "()V" } : Jvm.MethodName)) ∈ lw_all := lw_g (lw_at lw_m4 35 rfl) rfl
theorem q825 : (Jvm.Cond.code ({ cls := "DeadlineTreeModel", name := "empties", desc := "()V" } : Jvm.MethodName) prog_11_method_4_code (2 : Nat) (Option.none : Option Jvm.ClassFile.FieldType)) ∈ lw_all := lw_g (lw_at lw_m4 36 rfl) rfl
theorem q826 : (Jvm.Cond.methodLink "DeadlineTreeModel" (86 : Nat) ({ cls := "DeadlineTreeModel", name := "comes", desc := "(IIII)I" } : Jvm.MethodName)) ∈ lw_all := lw_g (lw_at lw_m4 37 rfl) rfl
theorem q827 : (Jvm.Cond.privateMethod ({ cls := "DeadlineTreeModel", name := "comes", desc := "(IIII)I" } : Jvm.MethodName)) ∈ lw_tbl := lw_at lw_m4 38 rfl
theorem q828 : (Jvm.Cond.instanceMethod ({ cls := "DeadlineTreeModel", name := "comes", desc := "(IIII)I" } : Jvm.MethodName)) ∈ lw_all := lw_g (lw_at lw_m4 39 rfl) rfl
theorem q829 : (Jvm.Cond.code ({ cls := "DeadlineTreeModel", name := "comes", desc := "(IIII)I" } : Jvm.MethodName) prog_11_method_20_code (11 : Nat) (Option.some Jvm.ClassFile.FieldType.int)) ∈ lw_all := lw_g (lw_at lw_m4 40 rfl) rfl
theorem q830 : (Jvm.Cond.methodLink "DeadlineTreeModel" (97 : Nat) ({ cls := "DeadlineTreeModel", name := "has", desc := "(II)Z" } : Jvm.MethodName)) ∈ lw_all := lw_g (lw_at lw_m4 41 rfl) rfl
theorem q831 : (Jvm.Cond.static ({ cls := "DeadlineTreeModel", name := "has", desc := "(II)Z" } : Jvm.MethodName)) ∈ lw_all := lw_g (lw_at lw_m4 42 rfl) rfl
theorem q832 : (Jvm.Cond.code ({ cls := "DeadlineTreeModel", name := "has", desc := "(II)Z" } : Jvm.MethodName) prog_11_method_2_code (2 : Nat) (Option.some Jvm.ClassFile.FieldType.boolean)) ∈ lw_all := lw_g (lw_at lw_m4 43 rfl) rfl
theorem q833 : (Jvm.Cond.methodLink "DeadlineTreeModel" (124 : Nat) ({ cls := "DeadlineTreeModel", name := "newLeaf", desc := "(I)I" } : Jvm.MethodName)) ∈ lw_all := lw_g (lw_at lw_m4 44 rfl) rfl
theorem q834 : (Jvm.Cond.privateMethod ({ cls := "DeadlineTreeModel", name := "newLeaf", desc := "(I)I" } : Jvm.MethodName)) ∈ lw_tbl := lw_at lw_m4 45 rfl
theorem q835 : (Jvm.Cond.instanceMethod ({ cls := "DeadlineTreeModel", name := "newLeaf", desc := "(I)I" } : Jvm.MethodName)) ∈ lw_all := lw_g (lw_at lw_m4 46 rfl) rfl
theorem q836 : (Jvm.Cond.code ({ cls := "DeadlineTreeModel", name := "newLeaf", desc := "(I)I" } : Jvm.MethodName) prog_11_method_11_code (3 : Nat) (Option.some Jvm.ClassFile.FieldType.int)) ∈ lw_all := lw_g (lw_at lw_m4 47 rfl) rfl
theorem q837 : (Jvm.Cond.methodLink "DeadlineTreeModel" (105 : Nat) ({ cls := "DeadlineTreeModel", name := "becomesLeaf", desc := "(II)V" } : Jvm.MethodName)) ∈ lw_all := lw_g (lw_at lw_m4 48 rfl) rfl
theorem q838 : (Jvm.Cond.privateMethod ({ cls := "DeadlineTreeModel", name := "becomesLeaf", desc := "(II)V" } : Jvm.MethodName)) ∈ lw_tbl := lw_at lw_m4 49 rfl
theorem q839 : (Jvm.Cond.instanceMethod ({ cls := "DeadlineTreeModel", name := "becomesLeaf", desc := "(II)V" } : Jvm.MethodName)) ∈ lw_all := lw_g (lw_at lw_m4 50 rfl) rfl
theorem q840 : (Jvm.Cond.code ({ cls := "DeadlineTreeModel", name := "becomesLeaf", desc := "(II)V" } : Jvm.MethodName) prog_11_method_12_code (3 : Nat) (Option.none : Option Jvm.ClassFile.FieldType)) ∈ lw_all := lw_g (lw_at lw_m4 51 rfl) rfl
theorem q841 : (Jvm.Cond.methodLink "DeadlineTreeModel" (113 : Nat) ({ cls := "DeadlineTreeModel", name := "isLeaf", desc := "(I)Z" } : Jvm.MethodName)) ∈ lw_all := lw_g (lw_at lw_m4 52 rfl) rfl
theorem q842 : (Jvm.Cond.privateMethod ({ cls := "DeadlineTreeModel", name := "isLeaf", desc := "(I)Z" } : Jvm.MethodName)) ∈ lw_tbl := lw_at lw_m4 53 rfl
theorem q843 : (Jvm.Cond.instanceMethod ({ cls := "DeadlineTreeModel", name := "isLeaf", desc := "(I)Z" } : Jvm.MethodName)) ∈ lw_all := lw_g (lw_at lw_m4 54 rfl) rfl
theorem q844 : (Jvm.Cond.code ({ cls := "DeadlineTreeModel", name := "isLeaf", desc := "(I)Z" } : Jvm.MethodName) prog_11_method_10_code (2 : Nat) (Option.some Jvm.ClassFile.FieldType.boolean)) ∈ lw_all := lw_g (lw_at lw_m4 55 rfl) rfl
theorem q845 : (Jvm.Cond.methodLink "DeadlineTreeModel" (136 : Nat) ({ cls := "DeadlineTreeModel", name := "isLeft", desc := "(IIII)Z" } : Jvm.MethodName)) ∈ lw_all := lw_g (lw_at lw_m4 56 rfl) rfl
theorem q846 : (Jvm.Cond.static ({ cls := "DeadlineTreeModel", name := "isLeft", desc := "(IIII)Z" } : Jvm.MethodName)) ∈ lw_all := lw_g (lw_at lw_m4 57 rfl) rfl
theorem q847 : (Jvm.Cond.code ({ cls := "DeadlineTreeModel", name := "isLeft", desc := "(IIII)Z" } : Jvm.MethodName) prog_11_method_9_code (4 : Nat) (Option.some Jvm.ClassFile.FieldType.boolean)) ∈ lw_all := lw_g (lw_at lw_m4 58 rfl) rfl
theorem q848 : (Jvm.Cond.methodLink "DeadlineTreeModel" (140 : Nat) ({ cls := "DeadlineTreeModel", name := "settles", desc := "(I)V" } : Jvm.MethodName)) ∈ lw_all := lw_g (lw_at lw_m4 59 rfl) rfl
theorem q849 : (Jvm.Cond.privateMethod ({ cls := "DeadlineTreeModel", name := "settles", desc := "(I)V" } : Jvm.MethodName)) ∈ lw_tbl := lw_at lw_m4 60 rfl
theorem q850 : (Jvm.Cond.instanceMethod ({ cls := "DeadlineTreeModel", name := "settles", desc := "(I)V" } : Jvm.MethodName)) ∈ lw_all := lw_g (lw_at lw_m4 61 rfl) rfl
theorem q851 : (Jvm.Cond.code ({ cls := "DeadlineTreeModel", name := "settles", desc := "(I)V" } : Jvm.MethodName) prog_11_method_19_code (4 : Nat) (Option.none : Option Jvm.ClassFile.FieldType)) ∈ lw_all := lw_g (lw_at lw_m4 62 rfl) rfl
theorem q852 : (Jvm.Cond.methodLink "DeadlineTreeModel" (109 : Nat) ({ cls := "DeadlineTreeModel", name := "aboveOf", desc := "(I)I" } : Jvm.MethodName)) ∈ lw_all := lw_g (lw_at lw_m4 63 rfl) rfl
theorem q853 : (Jvm.Cond.privateMethod ({ cls := "DeadlineTreeModel", name := "aboveOf", desc := "(I)I" } : Jvm.MethodName)) ∈ lw_tbl := lw_at lw_m4 64 rfl
theorem q854 : (Jvm.Cond.instanceMethod ({ cls := "DeadlineTreeModel", name := "aboveOf", desc := "(I)I" } : Jvm.MethodName)) ∈ lw_all := lw_g (lw_at lw_m4 65 rfl) rfl
theorem q855 : (Jvm.Cond.code ({ cls := "DeadlineTreeModel", name := "aboveOf", desc := "(I)I" } : Jvm.MethodName) prog_11_method_13_code (4 : Nat) (Option.some Jvm.ClassFile.FieldType.int)) ∈ lw_all := lw_g (lw_at lw_m4 66 rfl) rfl
theorem q856 : (Jvm.Cond.methodLink "DeadlineTreeModel" (127 : Nat) ({ cls := "DeadlineTreeModel", name := "leans", desc := "(I)Z" } : Jvm.MethodName)) ∈ lw_all := lw_g (lw_at lw_m4 67 rfl) rfl
theorem q857 : (Jvm.Cond.privateMethod ({ cls := "DeadlineTreeModel", name := "leans", desc := "(I)Z" } : Jvm.MethodName)) ∈ lw_tbl := lw_at lw_m4 68 rfl
theorem q858 : (Jvm.Cond.instanceMethod ({ cls := "DeadlineTreeModel", name := "leans", desc := "(I)Z" } : Jvm.MethodName)) ∈ lw_all := lw_g (lw_at lw_m4 69 rfl) rfl
theorem q859 : (Jvm.Cond.code ({ cls := "DeadlineTreeModel", name := "leans", desc := "(I)Z" } : Jvm.MethodName) prog_11_method_18_code (4 : Nat) (Option.some Jvm.ClassFile.FieldType.boolean)) ∈ lw_all := lw_g (lw_at lw_m4 70 rfl) rfl
theorem q860 : (Jvm.Cond.methodLink "DeadlineTreeModel" (117 : Nat) ({ cls := "DeadlineTreeModel", name := "leaves", desc := "(I)I" } : Jvm.MethodName)) ∈ lw_all := lw_g (lw_at lw_m4 71 rfl) rfl
theorem q861 : (Jvm.Cond.privateMethod ({ cls := "DeadlineTreeModel", name := "leaves", desc := "(I)I" } : Jvm.MethodName)) ∈ lw_tbl := lw_at lw_m4 72 rfl
theorem q862 : (Jvm.Cond.instanceMethod ({ cls := "DeadlineTreeModel", name := "leaves", desc := "(I)I" } : Jvm.MethodName)) ∈ lw_all := lw_g (lw_at lw_m4 73 rfl) rfl
theorem q863 : (Jvm.Cond.code ({ cls := "DeadlineTreeModel", name := "leaves", desc := "(I)I" } : Jvm.MethodName) prog_11_method_15_code (5 : Nat) (Option.some Jvm.ClassFile.FieldType.int)) ∈ lw_all := lw_g (lw_at lw_m4 74 rfl) rfl
theorem q864 : (Jvm.Cond.methodLink "DeadlineTreeModel" (130 : Nat) ({ cls := "DeadlineTreeModel", name := "levels", desc := "(I)V" } : Jvm.MethodName)) ∈ lw_all := lw_g (lw_at lw_m4 75 rfl) rfl
theorem q865 : (Jvm.Cond.privateMethod ({ cls := "DeadlineTreeModel", name := "levels", desc := "(I)V" } : Jvm.MethodName)) ∈ lw_tbl := lw_at lw_m4 76 rfl
theorem q866 : (Jvm.Cond.instanceMethod ({ cls := "DeadlineTreeModel", name := "levels", desc := "(I)V" } : Jvm.MethodName)) ∈ lw_all := lw_g (lw_at lw_m4 77 rfl) rfl
theorem q867 : (Jvm.Cond.code ({ cls := "DeadlineTreeModel", name := "levels", desc := "(I)V" } : Jvm.MethodName) prog_11_method_17_code (10 : Nat) (Option.none : Option Jvm.ClassFile.FieldType)) ∈ lw_all := lw_g (lw_at lw_m4 78 rfl) rfl
theorem q868 : (Jvm.Cond.methodLink "DeadlineTreeModel" (120 : Nat) ({ cls := "DeadlineTreeModel", name := "frees", desc := "(I)V" } : Jvm.MethodName)) ∈ lw_all := lw_g (lw_at lw_m4 79 rfl) rfl
theorem q869 : (Jvm.Cond.privateMethod ({ cls := "DeadlineTreeModel", name := "frees", desc := "(I)V" } : Jvm.MethodName)) ∈ lw_tbl := lw_at lw_m4 80 rfl
theorem q870 : (Jvm.Cond.instanceMethod ({ cls := "DeadlineTreeModel", name := "frees", desc := "(I)V" } : Jvm.MethodName)) ∈ lw_all := lw_g (lw_at lw_m4 81 rfl) rfl
theorem q871 : (Jvm.Cond.code ({ cls := "DeadlineTreeModel", name := "frees", desc := "(I)V" } : Jvm.MethodName) prog_11_method_16_code (4 : Nat) (Option.none : Option Jvm.ClassFile.FieldType)) ∈ lw_all := lw_g (lw_at lw_m4 82 rfl) rfl
theorem q872 : (Jvm.Cond.fieldLink "DeadlineTreeModel" (90 : Nat) "DeadlineTreeModel" "there" "I") ∈ lw_all := lw_g (lw_at lw_m4 83 rfl) rfl
theorem q873 : (Jvm.Cond.fieldLink "DeadlineTreeModel" (7 : Nat) "DeadlineTreeModel" "kindOf" "[I") ∈ lw_all := lw_g (lw_at lw_m4 84 rfl) rfl
theorem q874 : (Jvm.Cond.fieldLink "DeadlineTreeModel" (13 : Nat) "DeadlineTreeModel" "startOf" "[I") ∈ lw_all := lw_g (lw_at lw_m4 85 rfl) rfl
theorem q875 : (Jvm.Cond.fieldLink "DeadlineTreeModel" (16 : Nat) "DeadlineTreeModel" "deadOf" "[I") ∈ lw_all := lw_g (lw_at lw_m4 86 rfl) rfl
theorem q876 : (Jvm.Cond.fieldLink "DeadlineTreeModel" (19 : Nat) "DeadlineTreeModel" "longOf" "[I") ∈ lw_all := lw_g (lw_at lw_m4 87 rfl) rfl
theorem q877 : (Jvm.Cond.fieldLink "DeadlineTreeModel" (22 : Nat) "DeadlineTreeModel" "root" "I") ∈ lw_all := lw_g (lw_at lw_m4 88 rfl) rfl
theorem q878 : (Jvm.Cond.fieldLink "DeadlineTreeModel" (26 : Nat) "DeadlineTreeModel" "leftOf" "[I") ∈ lw_all := lw_g (lw_at lw_m4 89 rfl) rfl
theorem q879 : (Jvm.Cond.fieldLink "DeadlineTreeModel" (29 : Nat) "DeadlineTreeModel" "rightOf" "[I") ∈ lw_all := lw_g (lw_at lw_m4 90 rfl) rfl
theorem q880 : (Jvm.Cond.fieldLink "DeadlineTreeModel" (32 : Nat) "DeadlineTreeModel" "jobOf" "[I") ∈ lw_all := lw_g (lw_at lw_m4 91 rfl) rfl
theorem q881 : (Jvm.Cond.fieldLink "DeadlineTreeModel" (35 : Nat) "DeadlineTreeModel" "splitStart" "[I") ∈ lw_all := lw_g (lw_at lw_m4 92 rfl) rfl
theorem q882 : (Jvm.Cond.fieldLink "DeadlineTreeModel" (38 : Nat) "DeadlineTreeModel" "splitNumber" "[I") ∈ lw_all := lw_g (lw_at lw_m4 93 rfl) rfl
theorem q883 : (Jvm.Cond.fieldLink "DeadlineTreeModel" (133 : Nat) "DeadlineTreeModel" "levelled" "I") ∈ lw_all := lw_g (lw_at lw_m4 94 rfl) rfl
theorem q884 : (Jvm.Cond.fieldLink "DeadlineTreeModel" (41 : Nat) "DeadlineTreeModel" "waits" "[I") ∈ lw_all := lw_g (lw_at lw_m4 95 rfl) rfl
theorem q885 : (Jvm.Cond.fieldLink "DeadlineTreeModel" (44 : Nat) "DeadlineTreeModel" "row" "[I") ∈ lw_all := lw_g (lw_at lw_m4 96 rfl) rfl
theorem q886 : (Jvm.Cond.fieldLink "DeadlineTreeModel" (47 : Nat) "DeadlineTreeModel" "fromOf" "[I") ∈ lw_all := lw_g (lw_at lw_m4 97 rfl) rfl
theorem q887 : (Jvm.Cond.fieldLink "DeadlineTreeModel" (50 : Nat) "DeadlineTreeModel" "toOf" "[I") ∈ lw_all := lw_g (lw_at lw_m4 98 rfl) rfl
theorem q888 : (Jvm.Cond.fieldLink "DeadlineTreeModel" (53 : Nat) "DeadlineTreeModel" "holds" "[I") ∈ lw_all := lw_g (lw_at lw_m4 99 rfl) rfl
theorem q889 : (Jvm.Cond.fieldLink "DeadlineTreeModel" (56 : Nat) "DeadlineTreeModel" "order" "[I") ∈ lw_all := lw_g (lw_at lw_m4 100 rfl) rfl
theorem q890 : (Jvm.Cond.fieldLink "DeadlineTreeModel" (59 : Nat) "DeadlineTreeModel" "stackOf" "[I") ∈ lw_all := lw_g (lw_at lw_m4 101 rfl) rfl
theorem q891 : (Jvm.Cond.fieldLink "DeadlineTreeModel" (62 : Nat) "DeadlineTreeModel" "ahead" "[I") ∈ lw_all := lw_g (lw_at lw_m4 102 rfl) rfl
theorem q892 : (Jvm.Cond.fieldLink "DeadlineTreeModel" (171 : Nat) "DeadlineTreeModel" "undoMany" "I") ∈ lw_all := lw_g (lw_at lw_m4 103 rfl) rfl
theorem q893 : (Jvm.Cond.fieldLink "DeadlineTreeModel" (65 : Nat) "DeadlineTreeModel" "saved" "[I") ∈ lw_all := lw_g (lw_at lw_m4 104 rfl) rfl
theorem q894 : (Jvm.Cond.fieldLink "DeadlineTreeModel" (196 : Nat) "DeadlineTreeModel" "savedMany" "I") ∈ lw_all := lw_g (lw_at lw_m4 105 rfl) rfl
theorem q895 : (Jvm.Cond.fieldLink "DeadlineTreeModel" (68 : Nat) "DeadlineTreeModel" "aside" "[I") ∈ lw_all := lw_g (lw_at lw_m4 106 rfl) rfl
theorem q896 : (Jvm.Cond.fieldLink "DeadlineTreeModel" (71 : Nat) "DeadlineTreeModel" "met" "[I") ∈ lw_all := lw_g (lw_at lw_m4 107 rfl) rfl
theorem q897 : (Jvm.Cond.fieldLink "DeadlineTreeModel" (199 : Nat) "DeadlineTreeModel" "metMany" "I") ∈ lw_all := lw_g (lw_at lw_m4 108 rfl) rfl
theorem q898 : (Jvm.Cond.fieldLink "DeadlineTreeModel" (74 : Nat) "DeadlineTreeModel" "endOf" "[I") ∈ lw_all := lw_g (lw_at lw_m4 109 rfl) rfl
theorem q899 : (Jvm.Cond.fieldLink "DeadlineTreeModel" (77 : Nat) "DeadlineTreeModel" "text" "[I") ∈ lw_all := lw_g (lw_at lw_m4 110 rfl) rfl
theorem q900 : (Jvm.Cond.fieldLink "DeadlineTreeModel" (229 : Nat) "DeadlineTreeModel" "size" "I") ∈ lw_all := lw_g (lw_at lw_m4 111 rfl) rfl
theorem q901 : (Jvm.Cond.fieldLink "DeadlineTreeModel" (232 : Nat) "DeadlineTreeModel" "readAt" "I") ∈ lw_all := lw_g (lw_at lw_m4 112 rfl) rfl
theorem q902 : (Jvm.Cond.fieldLink "DeadlineTreeModel" (245 : Nat) "DeadlineTreeModel" "readMany" "I") ∈ lw_all := lw_g (lw_at lw_m4 113 rfl) rfl
theorem q903 : (Jvm.Cond.fieldLink "DeadlineTreeModel" (242 : Nat) "DeadlineTreeModel" "readNumber" "I") ∈ lw_all := lw_g (lw_at lw_m4 114 rfl) rfl
theorem q904 : (Jvm.Cond.fieldLink "DeadlineTreeModel" (80 : Nat) "DeadlineTreeModel" "readJob" "[I") ∈ lw_all := lw_g (lw_at lw_m4 115 rfl) rfl
theorem q905 : (Jvm.Cond.lays "DeadlineTreeModel" "DeadlineTreeModel" "there" "I") ∈ lw_all := lw_g (lw_at lw_m4 116 rfl) rfl
theorem q906 : (Jvm.Cond.soleField "DeadlineTreeModel" "there") ∈ lw_all := lw_g (lw_at lw_m4 117 rfl) rfl
theorem q907 : (Jvm.Cond.laysFinal "DeadlineTreeModel" "DeadlineTreeModel" "kindOf" "[I") ∈ lw_all := lw_g (lw_at lw_m4 118 rfl) rfl
theorem q908 : (Jvm.Cond.soleField "DeadlineTreeModel" "kindOf") ∈ lw_all := lw_g (lw_at lw_m4 119 rfl) rfl
theorem q909 : (Jvm.Cond.laysFinal "DeadlineTreeModel" "DeadlineTreeModel" "startOf" "[I") ∈ lw_all := lw_g (lw_at lw_m4 120 rfl) rfl
theorem q910 : (Jvm.Cond.soleField "DeadlineTreeModel" "startOf") ∈ lw_all := lw_g (lw_at lw_m4 121 rfl) rfl
theorem q911 : (Jvm.Cond.laysFinal "DeadlineTreeModel" "DeadlineTreeModel" "deadOf" "[I") ∈ lw_all := lw_g (lw_at lw_m4 122 rfl) rfl
theorem q912 : (Jvm.Cond.soleField "DeadlineTreeModel" "deadOf") ∈ lw_all := lw_g (lw_at lw_m4 123 rfl) rfl
theorem q913 : (Jvm.Cond.laysFinal "DeadlineTreeModel" "DeadlineTreeModel" "longOf" "[I") ∈ lw_all := lw_g (lw_at lw_m4 124 rfl) rfl
theorem q914 : (Jvm.Cond.soleField "DeadlineTreeModel" "longOf") ∈ lw_all := lw_g (lw_at lw_m4 125 rfl) rfl
theorem q915 : (Jvm.Cond.lays "DeadlineTreeModel" "DeadlineTreeModel" "root" "I") ∈ lw_all := lw_g (lw_at lw_m4 126 rfl) rfl
theorem q916 : (Jvm.Cond.soleField "DeadlineTreeModel" "root") ∈ lw_all := lw_g (lw_at lw_m4 127 rfl) rfl
theorem q917 : (Jvm.Cond.laysFinal "DeadlineTreeModel" "DeadlineTreeModel" "leftOf" "[I") ∈ lw_all := lw_g (lw_at lw_m4 128 rfl) rfl
theorem q918 : (Jvm.Cond.soleField "DeadlineTreeModel" "leftOf") ∈ lw_all := lw_g (lw_at lw_m4 129 rfl) rfl
theorem q919 : (Jvm.Cond.laysFinal "DeadlineTreeModel" "DeadlineTreeModel" "rightOf" "[I") ∈ lw_all := lw_g (lw_at lw_m4 130 rfl) rfl
theorem q920 : (Jvm.Cond.soleField "DeadlineTreeModel" "rightOf") ∈ lw_all := lw_g (lw_at lw_m4 131 rfl) rfl
theorem q921 : (Jvm.Cond.laysFinal "DeadlineTreeModel" "DeadlineTreeModel" "jobOf" "[I") ∈ lw_all := lw_g (lw_at lw_m4 132 rfl) rfl
theorem q922 : (Jvm.Cond.soleField "DeadlineTreeModel" "jobOf") ∈ lw_all := lw_g (lw_at lw_m4 133 rfl) rfl
theorem q923 : (Jvm.Cond.laysFinal "DeadlineTreeModel" "DeadlineTreeModel" "splitStart" "[I") ∈ lw_all := lw_g (lw_at lw_m4 134 rfl) rfl
theorem q924 : (Jvm.Cond.soleField "DeadlineTreeModel" "splitStart") ∈ lw_all := lw_g (lw_at lw_m4 135 rfl) rfl
theorem q925 : (Jvm.Cond.laysFinal "DeadlineTreeModel" "DeadlineTreeModel" "splitNumber" "[I") ∈ lw_all := lw_g (lw_at lw_m4 136 rfl) rfl
theorem q926 : (Jvm.Cond.soleField "DeadlineTreeModel" "splitNumber") ∈ lw_all := lw_g (lw_at lw_m4 137 rfl) rfl
theorem q927 : (Jvm.Cond.lays "DeadlineTreeModel" "DeadlineTreeModel" "levelled" "I") ∈ lw_all := lw_g (lw_at lw_m4 138 rfl) rfl
theorem q928 : (Jvm.Cond.soleField "DeadlineTreeModel" "levelled") ∈ lw_all := lw_g (lw_at lw_m4 139 rfl) rfl
theorem q929 : (Jvm.Cond.laysFinal "DeadlineTreeModel" "DeadlineTreeModel" "waits" "[I") ∈ lw_all := lw_g (lw_at lw_m4 140 rfl) rfl
theorem q930 : (Jvm.Cond.soleField "DeadlineTreeModel" "waits") ∈ lw_all := lw_g (lw_at lw_m4 141 rfl) rfl
theorem q931 : (Jvm.Cond.laysFinal "DeadlineTreeModel" "DeadlineTreeModel" "row" "[I") ∈ lw_all := lw_g (lw_at lw_m4 142 rfl) rfl
theorem q932 : (Jvm.Cond.soleField "DeadlineTreeModel" "row") ∈ lw_all := lw_g (lw_at lw_m4 143 rfl) rfl
theorem q933 : (Jvm.Cond.laysFinal "DeadlineTreeModel" "DeadlineTreeModel" "fromOf" "[I") ∈ lw_all := lw_g (lw_at lw_m4 144 rfl) rfl
theorem q934 : (Jvm.Cond.soleField "DeadlineTreeModel" "fromOf") ∈ lw_all := lw_g (lw_at lw_m4 145 rfl) rfl
theorem q935 : (Jvm.Cond.laysFinal "DeadlineTreeModel" "DeadlineTreeModel" "toOf" "[I") ∈ lw_all := lw_g (lw_at lw_m4 146 rfl) rfl
theorem q936 : (Jvm.Cond.soleField "DeadlineTreeModel" "toOf") ∈ lw_all := lw_g (lw_at lw_m4 147 rfl) rfl
theorem q937 : (Jvm.Cond.laysFinal "DeadlineTreeModel" "DeadlineTreeModel" "holds" "[I") ∈ lw_all := lw_g (lw_at lw_m4 148 rfl) rfl
theorem q938 : (Jvm.Cond.soleField "DeadlineTreeModel" "holds") ∈ lw_all := lw_g (lw_at lw_m4 149 rfl) rfl
theorem q939 : (Jvm.Cond.laysFinal "DeadlineTreeModel" "DeadlineTreeModel" "order" "[I") ∈ lw_all := lw_g (lw_at lw_m4 150 rfl) rfl
theorem q940 : (Jvm.Cond.soleField "DeadlineTreeModel" "order") ∈ lw_all := lw_g (lw_at lw_m4 151 rfl) rfl
theorem q941 : (Jvm.Cond.laysFinal "DeadlineTreeModel" "DeadlineTreeModel" "stackOf" "[I") ∈ lw_all := lw_g (lw_at lw_m4 152 rfl) rfl
theorem q942 : (Jvm.Cond.soleField "DeadlineTreeModel" "stackOf") ∈ lw_all := lw_g (lw_at lw_m4 153 rfl) rfl
theorem q943 : (Jvm.Cond.laysFinal "DeadlineTreeModel" "DeadlineTreeModel" "ahead" "[I") ∈ lw_all := lw_g (lw_at lw_m4 154 rfl) rfl
theorem q944 : (Jvm.Cond.soleField "DeadlineTreeModel" "ahead") ∈ lw_all := lw_g (lw_at lw_m4 155 rfl) rfl
theorem q945 : (Jvm.Cond.lays "DeadlineTreeModel" "DeadlineTreeModel" "undoMany" "I") ∈ lw_all := lw_g (lw_at lw_m4 156 rfl) rfl
theorem q946 : (Jvm.Cond.soleField "DeadlineTreeModel" "undoMany") ∈ lw_all := lw_g (lw_at lw_m4 157 rfl) rfl
theorem q947 : (Jvm.Cond.laysFinal "DeadlineTreeModel" "DeadlineTreeModel" "saved" "[I") ∈ lw_all := lw_g (lw_at lw_m4 158 rfl) rfl
theorem q948 : (Jvm.Cond.soleField "DeadlineTreeModel" "saved") ∈ lw_all := lw_g (lw_at lw_m4 159 rfl) rfl
theorem q949 : (Jvm.Cond.lays "DeadlineTreeModel" "DeadlineTreeModel" "savedMany" "I") ∈ lw_all := lw_g (lw_at lw_m4 160 rfl) rfl
theorem q950 : (Jvm.Cond.soleField "DeadlineTreeModel" "savedMany") ∈ lw_all := lw_g (lw_at lw_m4 161 rfl) rfl
theorem q951 : (Jvm.Cond.laysFinal "DeadlineTreeModel" "DeadlineTreeModel" "aside" "[I") ∈ lw_all := lw_g (lw_at lw_m4 162 rfl) rfl
theorem q952 : (Jvm.Cond.soleField "DeadlineTreeModel" "aside") ∈ lw_all := lw_g (lw_at lw_m4 163 rfl) rfl
theorem q953 : (Jvm.Cond.laysFinal "DeadlineTreeModel" "DeadlineTreeModel" "met" "[I") ∈ lw_all := lw_g (lw_at lw_m4 164 rfl) rfl
theorem q954 : (Jvm.Cond.soleField "DeadlineTreeModel" "met") ∈ lw_all := lw_g (lw_at lw_m4 165 rfl) rfl
theorem q955 : (Jvm.Cond.lays "DeadlineTreeModel" "DeadlineTreeModel" "metMany" "I") ∈ lw_all := lw_g (lw_at lw_m4 166 rfl) rfl
theorem q956 : (Jvm.Cond.soleField "DeadlineTreeModel" "metMany") ∈ lw_all := lw_g (lw_at lw_m4 167 rfl) rfl
theorem q957 : (Jvm.Cond.laysFinal "DeadlineTreeModel" "DeadlineTreeModel" "endOf" "[I") ∈ lw_all := lw_g (lw_at lw_m4 168 rfl) rfl
theorem q958 : (Jvm.Cond.soleField "DeadlineTreeModel" "endOf") ∈ lw_all := lw_g (lw_at lw_m4 169 rfl) rfl
theorem q959 : (Jvm.Cond.laysFinal "DeadlineTreeModel" "DeadlineTreeModel" "text" "[I") ∈ lw_all := lw_g (lw_at lw_m4 170 rfl) rfl
theorem q960 : (Jvm.Cond.soleField "DeadlineTreeModel" "text") ∈ lw_all := lw_g (lw_at lw_m4 171 rfl) rfl
theorem q961 : (Jvm.Cond.lays "DeadlineTreeModel" "DeadlineTreeModel" "size" "I") ∈ lw_all := lw_g (lw_at lw_m4 172 rfl) rfl
theorem q962 : (Jvm.Cond.soleField "DeadlineTreeModel" "size") ∈ lw_all := lw_g (lw_at lw_m4 173 rfl) rfl
theorem q963 : (Jvm.Cond.lays "DeadlineTreeModel" "DeadlineTreeModel" "readAt" "I") ∈ lw_all := lw_g (lw_at lw_m4 174 rfl) rfl
theorem q964 : (Jvm.Cond.soleField "DeadlineTreeModel" "readAt") ∈ lw_all := lw_g (lw_at lw_m4 175 rfl) rfl
theorem q965 : (Jvm.Cond.lays "DeadlineTreeModel" "DeadlineTreeModel" "readMany" "I") ∈ lw_all := lw_g (lw_at lw_m4 176 rfl) rfl
theorem q966 : (Jvm.Cond.soleField "DeadlineTreeModel" "readMany") ∈ lw_all := lw_g (lw_at lw_m4 177 rfl) rfl
theorem q967 : (Jvm.Cond.lays "DeadlineTreeModel" "DeadlineTreeModel" "readNumber" "I") ∈ lw_all := lw_g (lw_at lw_m4 178 rfl) rfl
theorem q968 : (Jvm.Cond.soleField "DeadlineTreeModel" "readNumber") ∈ lw_all := lw_g (lw_at lw_m4 179 rfl) rfl
theorem q969 : (Jvm.Cond.laysFinal "DeadlineTreeModel" "DeadlineTreeModel" "readJob" "[I") ∈ lw_all := lw_g (lw_at lw_m4 180 rfl) rfl
theorem q970 : (Jvm.Cond.soleField "DeadlineTreeModel" "readJob") ∈ lw_all := lw_g (lw_at lw_m4 181 rfl) rfl
theorem q971 : (Jvm.Cond.superclass "DeadlineTreeModel" "java/lang/Object") ∈ lw_all := lw_g (lw_at lw_m4 182 rfl) rfl
theorem q973 : (Jvm.Cond.instanceMethod ({ cls := "DeadlineTreeModel", name := "job", desc := "(II)I" } : Jvm.MethodName)) ∈ lw_all := lw_g (lw_at lw_m4 184 rfl) rfl
theorem q974 : (Jvm.Cond.selects "DeadlineTreeModel" ({ cls := "DeadlineTreeModel", name := "job", desc := "(II)I" } : Jvm.MethodName) ({ cls := "DeadlineTreeModel", name := "job", desc := "(II)I" } : Jvm.MethodName)) ∈ lw_all := lw_g (lw_at lw_m4 185 rfl) rfl
theorem q975 : (Jvm.Cond.code ({ cls := "DeadlineTreeModel", name := "job", desc := "(II)I" } : Jvm.MethodName) prog_11_method_27_code (3 : Nat) (Option.some Jvm.ClassFile.FieldType.int)) ∈ lw_all := lw_g (lw_at lw_m4 186 rfl) rfl
theorem q976 : (Jvm.Cond.methodLink "DeadlineTreeModel" (159 : Nat) ({ cls := "DeadlineTreeModel", name := "isJob", desc := "(I)Z" } : Jvm.MethodName)) ∈ lw_all := lw_g (lw_at lw_m4 187 rfl) rfl
theorem q977 : (Jvm.Cond.privateMethod ({ cls := "DeadlineTreeModel", name := "isJob", desc := "(I)Z" } : Jvm.MethodName)) ∈ lw_tbl := lw_at lw_m4 188 rfl
theorem q978 : (Jvm.Cond.instanceMethod ({ cls := "DeadlineTreeModel", name := "isJob", desc := "(I)Z" } : Jvm.MethodName)) ∈ lw_all := lw_g (lw_at lw_m4 189 rfl) rfl
theorem q979 : (Jvm.Cond.code ({ cls := "DeadlineTreeModel", name := "isJob", desc := "(I)Z" } : Jvm.MethodName) prog_11_method_6_code (2 : Nat) (Option.some Jvm.ClassFile.FieldType.boolean)) ∈ lw_all := lw_g (lw_at lw_m4 190 rfl) rfl
theorem q980 : (Jvm.Cond.methodLink "DeadlineTreeModel" (93 : Nat) ({ cls := "DeadlineTreeModel", name := "in", desc := "(III)Z" } : Jvm.MethodName)) ∈ lw_all := lw_g (lw_at lw_m4 191 rfl) rfl
theorem q981 : (Jvm.Cond.static ({ cls := "DeadlineTreeModel", name := "in", desc := "(III)Z" } : Jvm.MethodName)) ∈ lw_all := lw_g (lw_at lw_m4 192 rfl) rfl
theorem q982 : (Jvm.Cond.code ({ cls := "DeadlineTreeModel", name := "in", desc := "(III)Z" } : Jvm.MethodName) prog_11_method_1_code (3 : Nat) (Option.some Jvm.ClassFile.FieldType.boolean)) ∈ lw_all := lw_g (lw_at lw_m4 193 rfl) rfl
theorem q983 : (Jvm.Cond.methodLink "DeadlineTreeModel" (146 : Nat) ({ cls := "DeadlineTreeModel", name := "rank", desc := "(I)I" } : Jvm.MethodName)) ∈ lw_all := lw_g (lw_at lw_m4 194 rfl) rfl
theorem q984 : (Jvm.Cond.privateMethod ({ cls := "DeadlineTreeModel", name := "rank", desc := "(I)I" } : Jvm.MethodName)) ∈ lw_tbl := lw_at lw_m4 195 rfl
theorem q985 : (Jvm.Cond.instanceMethod ({ cls := "DeadlineTreeModel", name := "rank", desc := "(I)I" } : Jvm.MethodName)) ∈ lw_all := lw_g (lw_at lw_m4 196 rfl) rfl
theorem q986 : (Jvm.Cond.code ({ cls := "DeadlineTreeModel", name := "rank", desc := "(I)I" } : Jvm.MethodName) prog_11_method_8_code (2 : Nat) (Option.some Jvm.ClassFile.FieldType.int)) ∈ lw_all := lw_g (lw_at lw_m4 197 rfl) rfl
theorem q987 : (Jvm.Cond.methodLink "DeadlineTreeModel" (101 : Nat) ({ cls := "DeadlineTreeModel", name := "rankBy", desc := "(II)I" } : Jvm.MethodName)) ∈ lw_all := lw_g (lw_at lw_m4 198 rfl) rfl
theorem q988 : (Jvm.Cond.privateMethod ({ cls := "DeadlineTreeModel", name := "rankBy", desc := "(II)I" } : Jvm.MethodName)) ∈ lw_tbl := lw_at lw_m4 199 rfl
theorem q989 : (Jvm.Cond.instanceMethod ({ cls := "DeadlineTreeModel", name := "rankBy", desc := "(II)I" } : Jvm.MethodName)) ∈ lw_all := lw_g (lw_at lw_m4 200 rfl) rfl
theorem q990 : (Jvm.Cond.code ({ cls := "DeadlineTreeModel", name := "rankBy", desc := "(II)I" } : Jvm.MethodName) prog_11_method_7_code (4 : Nat) (Option.some Jvm.ClassFile.FieldType.int)) ∈ lw_all := lw_g (lw_at lw_m4 201 rfl) rfl
theorem q991 : (Jvm.Cond.methodLink "DeadlineTreeModel" (162 : Nat) ({ cls := "DeadlineTreeModel", name := "holderOf", desc := "(I)I" } : Jvm.MethodName)) ∈ lw_all := lw_g (lw_at lw_m4 202 rfl) rfl
theorem q992 : (Jvm.Cond.privateMethod ({ cls := "DeadlineTreeModel", name := "holderOf", desc := "(I)I" } : Jvm.MethodName)) ∈ lw_tbl := lw_at lw_m4 203 rfl
theorem q993 : (Jvm.Cond.instanceMethod ({ cls := "DeadlineTreeModel", name := "holderOf", desc := "(I)I" } : Jvm.MethodName)) ∈ lw_all := lw_g (lw_at lw_m4 204 rfl) rfl
theorem q994 : (Jvm.Cond.code ({ cls := "DeadlineTreeModel", name := "holderOf", desc := "(I)I" } : Jvm.MethodName) prog_11_method_26_code (5 : Nat) (Option.some Jvm.ClassFile.FieldType.int)) ∈ lw_all := lw_g (lw_at lw_m4 205 rfl) rfl
theorem q995 : (Jvm.Cond.methodLink "DeadlineTreeModel" (155 : Nat) ({ cls := "DeadlineTreeModel", name := "setHolds", desc := "()I" } : Jvm.MethodName)) ∈ lw_all := lw_g (lw_at lw_m4 206 rfl) rfl
theorem q996 : (Jvm.Cond.privateMethod ({ cls := "DeadlineTreeModel", name := "setHolds", desc := "()I" } : Jvm.MethodName)) ∈ lw_tbl := lw_at lw_m4 207 rfl
theorem q997 : (Jvm.Cond.instanceMethod ({ cls := "DeadlineTreeModel", name := "setHolds", desc := "()I" } : Jvm.MethodName)) ∈ lw_all := lw_g (lw_at lw_m4 208 rfl) rfl
theorem q998 : (Jvm.Cond.code ({ cls := "DeadlineTreeModel", name := "setHolds", desc := "()I" } : Jvm.MethodName) prog_11_method_25_code (5 : Nat) (Option.some Jvm.ClassFile.FieldType.int)) ∈ lw_all := lw_g (lw_at lw_m4 209 rfl) rfl
theorem q999 : (Jvm.Cond.methodLink "DeadlineTreeModel" (152 : Nat) ({ cls := "DeadlineTreeModel", name := "dueOf", desc := "(II)I" } : Jvm.MethodName)) ∈ lw_all := lw_g (lw_at lw_m4 210 rfl) rfl
theorem q1000 : (Jvm.Cond.privateMethod ({ cls := "DeadlineTreeModel", name := "dueOf", desc := "(II)I" } : Jvm.MethodName)) ∈ lw_tbl := lw_at lw_m4 211 rfl
theorem q1001 : (Jvm.Cond.instanceMethod ({ cls := "DeadlineTreeModel", name := "dueOf", desc := "(II)I" } : Jvm.MethodName)) ∈ lw_all := lw_g (lw_at lw_m4 212 rfl) rfl
theorem q1002 : (Jvm.Cond.code ({ cls := "DeadlineTreeModel", name := "dueOf", desc := "(II)I" } : Jvm.MethodName) prog_11_method_24_code (5 : Nat) (Option.some Jvm.ClassFile.FieldType.int)) ∈ lw_all := lw_g (lw_at lw_m4 213 rfl) rfl
theorem q1003 : (Jvm.Cond.methodLink "DeadlineTreeModel" (149 : Nat) ({ cls := "DeadlineTreeModel", name := "isDue", desc := "(II)Z" } : Jvm.MethodName)) ∈ lw_all := lw_g (lw_at lw_m4 214 rfl) rfl
theorem q1004 : (Jvm.Cond.privateMethod ({ cls := "DeadlineTreeModel", name := "isDue", desc := "(II)Z" } : Jvm.MethodName)) ∈ lw_tbl := lw_at lw_m4 215 rfl
theorem q1005 : (Jvm.Cond.instanceMethod ({ cls := "DeadlineTreeModel", name := "isDue", desc := "(II)Z" } : Jvm.MethodName)) ∈ lw_all := lw_g (lw_at lw_m4 216 rfl) rfl
theorem q1006 : (Jvm.Cond.code ({ cls := "DeadlineTreeModel", name := "isDue", desc := "(II)Z" } : Jvm.MethodName) prog_11_method_23_code (3 : Nat) (Option.some Jvm.ClassFile.FieldType.boolean)) ∈ lw_all := lw_g (lw_at lw_m4 217 rfl) rfl
theorem q1007 : (Jvm.Cond.methodLink "DeadlineTreeModel" (165 : Nat) ({ cls := "DeadlineTreeModel", name := "deepOf", desc := "(I)I" } : Jvm.MethodName)) ∈ lw_all := lw_g (lw_at lw_m4 218 rfl) rfl
theorem q1008 : (Jvm.Cond.privateMethod ({ cls := "DeadlineTreeModel", name := "deepOf", desc := "(I)I" } : Jvm.MethodName)) ∈ lw_tbl := lw_at lw_m4 219 rfl
theorem q1009 : (Jvm.Cond.instanceMethod ({ cls := "DeadlineTreeModel", name := "deepOf", desc := "(I)I" } : Jvm.MethodName)) ∈ lw_all := lw_g (lw_at lw_m4 220 rfl) rfl
theorem q1010 : (Jvm.Cond.code ({ cls := "DeadlineTreeModel", name := "deepOf", desc := "(I)I" } : Jvm.MethodName) prog_11_method_14_code (4 : Nat) (Option.some Jvm.ClassFile.FieldType.int)) ∈ lw_all := lw_g (lw_at lw_m4 221 rfl) rfl
theorem q1011 : (Jvm.Cond.methodLink "DeadlineTreeModel" (143 : Nat) ({ cls := "DeadlineTreeModel", name := "leafOf", desc := "(I)I" } : Jvm.MethodName)) ∈ lw_all := lw_g (lw_at lw_m4 222 rfl) rfl
theorem q1012 : (Jvm.Cond.privateMethod ({ cls := "DeadlineTreeModel", name := "leafOf", desc := "(I)I" } : Jvm.MethodName)) ∈ lw_tbl := lw_at lw_m4 223 rfl
theorem q1013 : (Jvm.Cond.instanceMethod ({ cls := "DeadlineTreeModel", name := "leafOf", desc := "(I)I" } : Jvm.MethodName)) ∈ lw_all := lw_g (lw_at lw_m4 224 rfl) rfl
theorem q1014 : (Jvm.Cond.code ({ cls := "DeadlineTreeModel", name := "leafOf", desc := "(I)I" } : Jvm.MethodName) prog_11_method_21_code (4 : Nat) (Option.some Jvm.ClassFile.FieldType.int)) ∈ lw_all := lw_g (lw_at lw_m4 225 rfl) rfl
theorem q1016 : (Jvm.Cond.instanceMethod ({ cls := "DeadlineTreeModel", name := "node", desc := "(II)I" } : Jvm.MethodName)) ∈ lw_all := lw_g (lw_at lw_m4 227 rfl) rfl
theorem q1017 : (Jvm.Cond.selects "DeadlineTreeModel" ({ cls := "DeadlineTreeModel", name := "node", desc := "(II)I" } : Jvm.MethodName) ({ cls := "DeadlineTreeModel", name := "node", desc := "(II)I" } : Jvm.MethodName)) ∈ lw_all := lw_g (lw_at lw_m4 228 rfl) rfl
theorem q1018 : (Jvm.Cond.code ({ cls := "DeadlineTreeModel", name := "node", desc := "(II)I" } : Jvm.MethodName) prog_11_method_29_code (4 : Nat) (Option.some Jvm.ClassFile.FieldType.int)) ∈ lw_all := lw_g (lw_at lw_m4 229 rfl) rfl
theorem q1019 : (Jvm.Cond.methodLink "DeadlineTreeModel" (168 : Nat) ({ cls := "DeadlineTreeModel", name := "nodeBy", desc := "(I)I" } : Jvm.MethodName)) ∈ lw_all := lw_g (lw_at lw_m4 230 rfl) rfl
theorem q1020 : (Jvm.Cond.privateMethod ({ cls := "DeadlineTreeModel", name := "nodeBy", desc := "(I)I" } : Jvm.MethodName)) ∈ lw_tbl := lw_at lw_m4 231 rfl
theorem q1021 : (Jvm.Cond.instanceMethod ({ cls := "DeadlineTreeModel", name := "nodeBy", desc := "(I)I" } : Jvm.MethodName)) ∈ lw_all := lw_g (lw_at lw_m4 232 rfl) rfl
theorem q1022 : (Jvm.Cond.code ({ cls := "DeadlineTreeModel", name := "nodeBy", desc := "(I)I" } : Jvm.MethodName) prog_11_method_28_code (5 : Nat) (Option.some Jvm.ClassFile.FieldType.int)) ∈ lw_all := lw_g (lw_at lw_m4 233 rfl) rfl
theorem q1024 : (Jvm.Cond.instanceMethod ({ cls := "DeadlineTreeModel", name := "add", desc := "(IIII)I" } : Jvm.MethodName)) ∈ lw_all := lw_g (lw_at lw_m4 235 rfl) rfl
theorem q1025 : (Jvm.Cond.selects "DeadlineTreeModel" ({ cls := "DeadlineTreeModel", name := "add", desc := "(IIII)I" } : Jvm.MethodName) ({ cls := "DeadlineTreeModel", name := "add", desc := "(IIII)I" } : Jvm.MethodName)) ∈ lw_all := lw_g (lw_at lw_m4 236 rfl) rfl
theorem q1026 : (Jvm.Cond.code ({ cls := "DeadlineTreeModel", name := "add", desc := "(IIII)I" } : Jvm.MethodName) prog_11_method_34_code (5 : Nat) (Option.some Jvm.ClassFile.FieldType.int)) ∈ lw_all := lw_g (lw_at lw_m4 237 rfl) rfl
theorem q1027 : (Jvm.Cond.methodLink "DeadlineTreeModel" (178 : Nat) ({ cls := "DeadlineTreeModel", name := "isTold", desc := "(IIII)Z" } : Jvm.MethodName)) ∈ lw_all := lw_g (lw_at lw_m4 238 rfl) rfl
theorem q1028 : (Jvm.Cond.static ({ cls := "DeadlineTreeModel", name := "isTold", desc := "(IIII)Z" } : Jvm.MethodName)) ∈ lw_all := lw_g (lw_at lw_m4 239 rfl) rfl
theorem q1029 : (Jvm.Cond.code ({ cls := "DeadlineTreeModel", name := "isTold", desc := "(IIII)Z" } : Jvm.MethodName) prog_11_method_33_code (4 : Nat) (Option.some Jvm.ClassFile.FieldType.boolean)) ∈ lw_all := lw_g (lw_at lw_m5 0 rfl) rfl
theorem q1030 : (Jvm.Cond.methodLink "DeadlineTreeModel" (181 : Nat) ({ cls := "DeadlineTreeModel", name := "many", desc := "()I" } : Jvm.MethodName)) ∈ lw_all := lw_g (lw_at lw_m5 1 rfl) rfl
theorem q1031 : (Jvm.Cond.privateMethod ({ cls := "DeadlineTreeModel", name := "many", desc := "()I" } : Jvm.MethodName)) ∈ lw_tbl := lw_at lw_m5 2 rfl
theorem q1032 : (Jvm.Cond.instanceMethod ({ cls := "DeadlineTreeModel", name := "many", desc := "()I" } : Jvm.MethodName)) ∈ lw_all := lw_g (lw_at lw_m5 3 rfl) rfl
theorem q1033 : (Jvm.Cond.code ({ cls := "DeadlineTreeModel", name := "many", desc := "()I" } : Jvm.MethodName) prog_11_method_5_code (3 : Nat) (Option.some Jvm.ClassFile.FieldType.int)) ∈ lw_all := lw_g (lw_at lw_m5 4 rfl) rfl
theorem q1034 : (Jvm.Cond.methodLink "DeadlineTreeModel" (184 : Nat) ({ cls := "DeadlineTreeModel", name := "notes", desc := "()V" } : Jvm.MethodName)) ∈ lw_all := lw_g (lw_at lw_m5 5 rfl) rfl
theorem q1035 : (Jvm.Cond.privateMethod ({ cls := "DeadlineTreeModel", name := "notes", desc := "()V" } : Jvm.MethodName)) ∈ lw_tbl := lw_at lw_m5 6 rfl
theorem q1036 : (Jvm.Cond.instanceMethod ({ cls := "DeadlineTreeModel", name := "notes", desc := "()V" } : Jvm.MethodName)) ∈ lw_all := lw_g (lw_at lw_m5 7 rfl) rfl
theorem q1037 : (Jvm.Cond.code ({ cls := "DeadlineTreeModel", name := "notes", desc := "()V" } : Jvm.MethodName) prog_11_method_32_code (2 : Nat) (Option.none : Option Jvm.ClassFile.FieldType)) ∈ lw_all := lw_g (lw_at lw_m5 8 rfl) rfl
theorem q1038 : (Jvm.Cond.methodLink "DeadlineTreeModel" (174 : Nat) ({ cls := "DeadlineTreeModel", name := "lays", desc := "([II)V" } : Jvm.MethodName)) ∈ lw_all := lw_g (lw_at lw_m5 9 rfl) rfl
theorem q1039 : (Jvm.Cond.privateMethod ({ cls := "DeadlineTreeModel", name := "lays", desc := "([II)V" } : Jvm.MethodName)) ∈ lw_tbl := lw_at lw_m5 10 rfl
theorem q1040 : (Jvm.Cond.instanceMethod ({ cls := "DeadlineTreeModel", name := "lays", desc := "([II)V" } : Jvm.MethodName)) ∈ lw_all := lw_g (lw_at lw_m5 11 rfl) rfl
theorem q1041 : (Jvm.Cond.code ({ cls := "DeadlineTreeModel", name := "lays", desc := "([II)V" } : Jvm.MethodName) prog_11_method_30_code (4 : Nat) (Option.none : Option Jvm.ClassFile.FieldType)) ∈ lw_all := lw_g (lw_at lw_m5 12 rfl) rfl
theorem q1043 : (Jvm.Cond.instanceMethod ({ cls := "DeadlineTreeModel", name := "cut", desc := "(I)I" } : Jvm.MethodName)) ∈ lw_all := lw_g (lw_at lw_m5 14 rfl) rfl
theorem q1044 : (Jvm.Cond.selects "DeadlineTreeModel" ({ cls := "DeadlineTreeModel", name := "cut", desc := "(I)I" } : Jvm.MethodName) ({ cls := "DeadlineTreeModel", name := "cut", desc := "(I)I" } : Jvm.MethodName)) ∈ lw_all := lw_g (lw_at lw_m5 15 rfl) rfl
theorem q1045 : (Jvm.Cond.code ({ cls := "DeadlineTreeModel", name := "cut", desc := "(I)I" } : Jvm.MethodName) prog_11_method_35_code (2 : Nat) (Option.some Jvm.ClassFile.FieldType.int)) ∈ lw_all := lw_g (lw_at lw_m5 16 rfl) rfl
theorem q1046 : (Jvm.Cond.methodLink "DeadlineTreeModel" (187 : Nat) ({ cls := "DeadlineTreeModel", name := "goes", desc := "(I)V" } : Jvm.MethodName)) ∈ lw_all := lw_g (lw_at lw_m5 17 rfl) rfl
theorem q1047 : (Jvm.Cond.privateMethod ({ cls := "DeadlineTreeModel", name := "goes", desc := "(I)V" } : Jvm.MethodName)) ∈ lw_tbl := lw_at lw_m5 18 rfl
theorem q1048 : (Jvm.Cond.instanceMethod ({ cls := "DeadlineTreeModel", name := "goes", desc := "(I)V" } : Jvm.MethodName)) ∈ lw_all := lw_g (lw_at lw_m5 19 rfl) rfl
theorem q1049 : (Jvm.Cond.code ({ cls := "DeadlineTreeModel", name := "goes", desc := "(I)V" } : Jvm.MethodName) prog_11_method_22_code (5 : Nat) (Option.none : Option Jvm.ClassFile.FieldType)) ∈ lw_all := lw_g (lw_at lw_m5 20 rfl) rfl
theorem q1051 : (Jvm.Cond.instanceMethod ({ cls := "DeadlineTreeModel", name := "delay", desc := "(II)I" } : Jvm.MethodName)) ∈ lw_all := lw_g (lw_at lw_m5 22 rfl) rfl
theorem q1052 : (Jvm.Cond.selects "DeadlineTreeModel" ({ cls := "DeadlineTreeModel", name := "delay", desc := "(II)I" } : Jvm.MethodName) ({ cls := "DeadlineTreeModel", name := "delay", desc := "(II)I" } : Jvm.MethodName)) ∈ lw_all := lw_g (lw_at lw_m5 23 rfl) rfl
theorem q1053 : (Jvm.Cond.code ({ cls := "DeadlineTreeModel", name := "delay", desc := "(II)I" } : Jvm.MethodName) prog_11_method_36_code (4 : Nat) (Option.some Jvm.ClassFile.FieldType.int)) ∈ lw_all := lw_g (lw_at lw_m5 24 rfl) rfl
theorem q1055 : (Jvm.Cond.instanceMethod ({ cls := "DeadlineTreeModel", name := "level", desc := "()I" } : Jvm.MethodName)) ∈ lw_all := lw_g (lw_at lw_m5 26 rfl) rfl
theorem q1056 : (Jvm.Cond.selects "DeadlineTreeModel" ({ cls := "DeadlineTreeModel", name := "level", desc := "()I" } : Jvm.MethodName) ({ cls := "DeadlineTreeModel", name := "level", desc := "()I" } : Jvm.MethodName)) ∈ lw_all := lw_g (lw_at lw_m5 27 rfl) rfl
theorem q1057 : (Jvm.Cond.code ({ cls := "DeadlineTreeModel", name := "level", desc := "()I" } : Jvm.MethodName) prog_11_method_38_code (1 : Nat) (Option.some Jvm.ClassFile.FieldType.int)) ∈ lw_all := lw_g (lw_at lw_m5 28 rfl) rfl
theorem q1058 : (Jvm.Cond.methodLink "DeadlineTreeModel" (190 : Nat) ({ cls := "DeadlineTreeModel", name := "deepest", desc := "()I" } : Jvm.MethodName)) ∈ lw_all := lw_g (lw_at lw_m5 29 rfl) rfl
theorem q1059 : (Jvm.Cond.privateMethod ({ cls := "DeadlineTreeModel", name := "deepest", desc := "()I" } : Jvm.MethodName)) ∈ lw_tbl := lw_at lw_m5 30 rfl
theorem q1060 : (Jvm.Cond.instanceMethod ({ cls := "DeadlineTreeModel", name := "deepest", desc := "()I" } : Jvm.MethodName)) ∈ lw_all := lw_g (lw_at lw_m5 31 rfl) rfl
theorem q1061 : (Jvm.Cond.code ({ cls := "DeadlineTreeModel", name := "deepest", desc := "()I" } : Jvm.MethodName) prog_11_method_37_code (4 : Nat) (Option.some Jvm.ClassFile.FieldType.int)) ∈ lw_all := lw_g (lw_at lw_m5 32 rfl) rfl
theorem q1063 : (Jvm.Cond.instanceMethod ({ cls := "DeadlineTreeModel", name := "undo", desc := "()I" } : Jvm.MethodName)) ∈ lw_all := lw_g (lw_at lw_m5 34 rfl) rfl
theorem q1064 : (Jvm.Cond.selects "DeadlineTreeModel" ({ cls := "DeadlineTreeModel", name := "undo", desc := "()I" } : Jvm.MethodName) ({ cls := "DeadlineTreeModel", name := "undo", desc := "()I" } : Jvm.MethodName)) ∈ lw_all := lw_g (lw_at lw_m5 35 rfl) rfl
theorem q1065 : (Jvm.Cond.code ({ cls := "DeadlineTreeModel", name := "undo", desc := "()I" } : Jvm.MethodName) prog_11_method_39_code (1 : Nat) (Option.some Jvm.ClassFile.FieldType.int)) ∈ lw_all := lw_g (lw_at lw_m5 36 rfl) rfl
theorem q1066 : (Jvm.Cond.methodLink "DeadlineTreeModel" (193 : Nat) ({ cls := "DeadlineTreeModel", name := "takes", desc := "([II)V" } : Jvm.MethodName)) ∈ lw_all := lw_g (lw_at lw_m5 37 rfl) rfl
theorem q1067 : (Jvm.Cond.privateMethod ({ cls := "DeadlineTreeModel", name := "takes", desc := "([II)V" } : Jvm.MethodName)) ∈ lw_tbl := lw_at lw_m5 38 rfl
theorem q1068 : (Jvm.Cond.instanceMethod ({ cls := "DeadlineTreeModel", name := "takes", desc := "([II)V" } : Jvm.MethodName)) ∈ lw_all := lw_g (lw_at lw_m5 39 rfl) rfl
theorem q1069 : (Jvm.Cond.code ({ cls := "DeadlineTreeModel", name := "takes", desc := "([II)V" } : Jvm.MethodName) prog_11_method_31_code (4 : Nat) (Option.none : Option Jvm.ClassFile.FieldType)) ∈ lw_all := lw_g (lw_at lw_m5 40 rfl) rfl
theorem q1071 : (Jvm.Cond.instanceMethod ({ cls := "DeadlineTreeModel", name := "keep", desc := "()I" } : Jvm.MethodName)) ∈ lw_all := lw_g (lw_at lw_m5 42 rfl) rfl
theorem q1072 : (Jvm.Cond.selects "DeadlineTreeModel" ({ cls := "DeadlineTreeModel", name := "keep", desc := "()I" } : Jvm.MethodName) ({ cls := "DeadlineTreeModel", name := "keep", desc := "()I" } : Jvm.MethodName)) ∈ lw_all := lw_g (lw_at lw_m5 43 rfl) rfl
theorem q1073 : (Jvm.Cond.code ({ cls := "DeadlineTreeModel", name := "keep", desc := "()I" } : Jvm.MethodName) prog_11_method_40_code (1 : Nat) (Option.some Jvm.ClassFile.FieldType.int)) ∈ lw_all := lw_g (lw_at lw_m5 44 rfl) rfl
theorem q1075 : (Jvm.Cond.instanceMethod ({ cls := "DeadlineTreeModel", name := "back", desc := "()I" } : Jvm.MethodName)) ∈ lw_all := lw_g (lw_at lw_m5 46 rfl) rfl
theorem q1076 : (Jvm.Cond.selects "DeadlineTreeModel" ({ cls := "DeadlineTreeModel", name := "back", desc := "()I" } : Jvm.MethodName) ({ cls := "DeadlineTreeModel", name := "back", desc := "()I" } : Jvm.MethodName)) ∈ lw_all := lw_g (lw_at lw_m5 47 rfl) rfl
theorem q1077 : (Jvm.Cond.code ({ cls := "DeadlineTreeModel", name := "back", desc := "()I" } : Jvm.MethodName) prog_11_method_41_code (1 : Nat) (Option.some Jvm.ClassFile.FieldType.int)) ∈ lw_all := lw_g (lw_at lw_m5 48 rfl) rfl
theorem q1079 : (Jvm.Cond.instanceMethod ({ cls := "DeadlineTreeModel", name := "found", desc := "(IIII)I" } : Jvm.MethodName)) ∈ lw_all := lw_g (lw_at lw_m5 50 rfl) rfl
theorem q1080 : (Jvm.Cond.selects "DeadlineTreeModel" ({ cls := "DeadlineTreeModel", name := "found", desc := "(IIII)I" } : Jvm.MethodName) ({ cls := "DeadlineTreeModel", name := "found", desc := "(IIII)I" } : Jvm.MethodName)) ∈ lw_all := lw_g (lw_at lw_m5 51 rfl) rfl
theorem q1081 : (Jvm.Cond.code ({ cls := "DeadlineTreeModel", name := "found", desc := "(IIII)I" } : Jvm.MethodName) prog_11_method_44_code (6 : Nat) (Option.some Jvm.ClassFile.FieldType.int)) ∈ lw_all := lw_g (lw_at lw_m5 52 rfl) rfl
theorem q1082 : (Jvm.Cond.methodLink "DeadlineTreeModel" (202 : Nat) ({ cls := "DeadlineTreeModel", name := "isBetween", desc := "(II)Z" } : Jvm.MethodName)) ∈ lw_all := lw_g (lw_at lw_m5 53 rfl) rfl
theorem q1083 : (Jvm.Cond.static ({ cls := "DeadlineTreeModel", name := "isBetween", desc := "(II)Z" } : Jvm.MethodName)) ∈ lw_all := lw_g (lw_at lw_m5 54 rfl) rfl
theorem q1084 : (Jvm.Cond.code ({ cls := "DeadlineTreeModel", name := "isBetween", desc := "(II)Z" } : Jvm.MethodName) prog_11_method_43_code (2 : Nat) (Option.some Jvm.ClassFile.FieldType.boolean)) ∈ lw_all := lw_g (lw_at lw_m5 55 rfl) rfl
theorem q1085 : (Jvm.Cond.methodLink "DeadlineTreeModel" (205 : Nat) ({ cls := "DeadlineTreeModel", name := "looksAt", desc := "(III)I" } : Jvm.MethodName)) ∈ lw_all := lw_g (lw_at lw_m5 56 rfl) rfl
theorem q1086 : (Jvm.Cond.privateMethod ({ cls := "DeadlineTreeModel", name := "looksAt", desc := "(III)I" } : Jvm.MethodName)) ∈ lw_tbl := lw_at lw_m5 57 rfl
theorem q1087 : (Jvm.Cond.instanceMethod ({ cls := "DeadlineTreeModel", name := "looksAt", desc := "(III)I" } : Jvm.MethodName)) ∈ lw_all := lw_g (lw_at lw_m5 58 rfl) rfl
theorem q1088 : (Jvm.Cond.code ({ cls := "DeadlineTreeModel", name := "looksAt", desc := "(III)I" } : Jvm.MethodName) prog_11_method_42_code (10 : Nat) (Option.some Jvm.ClassFile.FieldType.int)) ∈ lw_all := lw_g (lw_at lw_m5 59 rfl) rfl
theorem q1090 : (Jvm.Cond.instanceMethod ({ cls := "DeadlineTreeModel", name := "first", desc := "(III)I" } : Jvm.MethodName)) ∈ lw_all := lw_g (lw_at lw_m5 61 rfl) rfl
theorem q1091 : (Jvm.Cond.selects "DeadlineTreeModel" ({ cls := "DeadlineTreeModel", name := "first", desc := "(III)I" } : Jvm.MethodName) ({ cls := "DeadlineTreeModel", name := "first", desc := "(III)I" } : Jvm.MethodName)) ∈ lw_all := lw_g (lw_at lw_m5 62 rfl) rfl
theorem q1092 : (Jvm.Cond.code ({ cls := "DeadlineTreeModel", name := "first", desc := "(III)I" } : Jvm.MethodName) prog_11_method_45_code (8 : Nat) (Option.some Jvm.ClassFile.FieldType.int)) ∈ lw_all := lw_g (lw_at lw_m5 63 rfl) rfl
theorem q1094 : (Jvm.Cond.instanceMethod ({ cls := "DeadlineTreeModel", name := "soonest", desc := "(II)I" } : Jvm.MethodName)) ∈ lw_all := lw_g (lw_at lw_m5 65 rfl) rfl
theorem q1095 : (Jvm.Cond.selects "DeadlineTreeModel" ({ cls := "DeadlineTreeModel", name := "soonest", desc := "(II)I" } : Jvm.MethodName) ({ cls := "DeadlineTreeModel", name := "soonest", desc := "(II)I" } : Jvm.MethodName)) ∈ lw_all := lw_g (lw_at lw_m5 66 rfl) rfl
theorem q1096 : (Jvm.Cond.code ({ cls := "DeadlineTreeModel", name := "soonest", desc := "(II)I" } : Jvm.MethodName) prog_11_method_46_code (6 : Nat) (Option.some Jvm.ClassFile.FieldType.int)) ∈ lw_all := lw_g (lw_at lw_m5 67 rfl) rfl
theorem q1098 : (Jvm.Cond.instanceMethod ({ cls := "DeadlineTreeModel", name := "end", desc := "(I)I" } : Jvm.MethodName)) ∈ lw_all := lw_g (lw_at lw_m5 69 rfl) rfl
theorem q1099 : (Jvm.Cond.selects "DeadlineTreeModel" ({ cls := "DeadlineTreeModel", name := "end", desc := "(I)I" } : Jvm.MethodName) ({ cls := "DeadlineTreeModel", name := "end", desc := "(I)I" } : Jvm.MethodName)) ∈ lw_all := lw_g (lw_at lw_m5 70 rfl) rfl
theorem q1100 : (Jvm.Cond.code ({ cls := "DeadlineTreeModel", name := "end", desc := "(I)I" } : Jvm.MethodName) prog_11_method_49_code (2 : Nat) (Option.some Jvm.ClassFile.FieldType.int)) ∈ lw_all := lw_g (lw_at lw_m5 71 rfl) rfl
theorem q1101 : (Jvm.Cond.methodLink "DeadlineTreeModel" (210 : Nat) ({ cls := "DeadlineTreeModel", name := "does", desc := "(II)I" } : Jvm.MethodName)) ∈ lw_all := lw_g (lw_at lw_m5 72 rfl) rfl
theorem q1102 : (Jvm.Cond.privateMethod ({ cls := "DeadlineTreeModel", name := "does", desc := "(II)I" } : Jvm.MethodName)) ∈ lw_tbl := lw_at lw_m5 73 rfl
theorem q1103 : (Jvm.Cond.instanceMethod ({ cls := "DeadlineTreeModel", name := "does", desc := "(II)I" } : Jvm.MethodName)) ∈ lw_all := lw_g (lw_at lw_m5 74 rfl) rfl
theorem q1104 : (Jvm.Cond.code ({ cls := "DeadlineTreeModel", name := "does", desc := "(II)I" } : Jvm.MethodName) prog_11_method_47_code (11 : Nat) (Option.some Jvm.ClassFile.FieldType.int)) ∈ lw_all := lw_g (lw_at lw_m5 75 rfl) rfl
theorem q1105 : (Jvm.Cond.constant "DeadlineTreeModel" (209 : Nat) (1048576 : Int32)) ∈ lw_all := lw_g (lw_at lw_m5 76 rfl) rfl
theorem q1107 : (Jvm.Cond.instanceMethod ({ cls := "DeadlineTreeModel", name := "late", desc := "()I" } : Jvm.MethodName)) ∈ lw_all := lw_g (lw_at lw_m5 78 rfl) rfl
theorem q1108 : (Jvm.Cond.selects "DeadlineTreeModel" ({ cls := "DeadlineTreeModel", name := "late", desc := "()I" } : Jvm.MethodName) ({ cls := "DeadlineTreeModel", name := "late", desc := "()I" } : Jvm.MethodName)) ∈ lw_all := lw_g (lw_at lw_m5 79 rfl) rfl
theorem q1109 : (Jvm.Cond.code ({ cls := "DeadlineTreeModel", name := "late", desc := "()I" } : Jvm.MethodName) prog_11_method_50_code (1 : Nat) (Option.some Jvm.ClassFile.FieldType.int)) ∈ lw_all := lw_g (lw_at lw_m5 80 rfl) rfl
theorem q1111 : (Jvm.Cond.instanceMethod ({ cls := "DeadlineTreeModel", name := "drop", desc := "(I)I" } : Jvm.MethodName)) ∈ lw_all := lw_g (lw_at lw_m5 82 rfl) rfl
theorem q1112 : (Jvm.Cond.selects "DeadlineTreeModel" ({ cls := "DeadlineTreeModel", name := "drop", desc := "(I)I" } : Jvm.MethodName) ({ cls := "DeadlineTreeModel", name := "drop", desc := "(I)I" } : Jvm.MethodName)) ∈ lw_all := lw_g (lw_at lw_m5 83 rfl) rfl
theorem q1113 : (Jvm.Cond.code ({ cls := "DeadlineTreeModel", name := "drop", desc := "(I)I" } : Jvm.MethodName) prog_11_method_51_code (6 : Nat) (Option.some Jvm.ClassFile.FieldType.int)) ∈ lw_all := lw_g (lw_at lw_m5 84 rfl) rfl
theorem q1114 : (Jvm.Cond.methodLink "DeadlineTreeModel" (213 : Nat) ({ cls := "DeadlineTreeModel", name := "bits", desc := "(I)I" } : Jvm.MethodName)) ∈ lw_all := lw_g (lw_at lw_m5 85 rfl) rfl
theorem q1115 : (Jvm.Cond.static ({ cls := "DeadlineTreeModel", name := "bits", desc := "(I)I" } : Jvm.MethodName)) ∈ lw_all := lw_g (lw_at lw_m5 86 rfl) rfl
theorem q1116 : (Jvm.Cond.code ({ cls := "DeadlineTreeModel", name := "bits", desc := "(I)I" } : Jvm.MethodName) prog_11_method_48_code (3 : Nat) (Option.some Jvm.ClassFile.FieldType.int)) ∈ lw_all := lw_g (lw_at lw_m5 87 rfl) rfl
theorem q1118 : (Jvm.Cond.instanceMethod ({ cls := "DeadlineTreeModel", name := "more", desc := "()I" } : Jvm.MethodName)) ∈ lw_all := lw_g (lw_at lw_m5 89 rfl) rfl
theorem q1119 : (Jvm.Cond.selects "DeadlineTreeModel" ({ cls := "DeadlineTreeModel", name := "more", desc := "()I" } : Jvm.MethodName) ({ cls := "DeadlineTreeModel", name := "more", desc := "()I" } : Jvm.MethodName)) ∈ lw_all := lw_g (lw_at lw_m5 90 rfl) rfl
theorem q1120 : (Jvm.Cond.code ({ cls := "DeadlineTreeModel", name := "more", desc := "()I" } : Jvm.MethodName) prog_11_method_52_code (2 : Nat) (Option.some Jvm.ClassFile.FieldType.int)) ∈ lw_all := lw_g (lw_at lw_m5 91 rfl) rfl
theorem q1122 : (Jvm.Cond.instanceMethod ({ cls := "DeadlineTreeModel", name := "day", desc := "(III)I" } : Jvm.MethodName)) ∈ lw_all := lw_g (lw_at lw_m5 93 rfl) rfl
theorem q1123 : (Jvm.Cond.selects "DeadlineTreeModel" ({ cls := "DeadlineTreeModel", name := "day", desc := "(III)I" } : Jvm.MethodName) ({ cls := "DeadlineTreeModel", name := "day", desc := "(III)I" } : Jvm.MethodName)) ∈ lw_all := lw_g (lw_at lw_m5 94 rfl) rfl
theorem q1124 : (Jvm.Cond.code ({ cls := "DeadlineTreeModel", name := "day", desc := "(III)I" } : Jvm.MethodName) prog_11_method_54_code (8 : Nat) (Option.some Jvm.ClassFile.FieldType.int)) ∈ lw_all := lw_g (lw_at lw_m5 95 rfl) rfl
theorem q1125 : (Jvm.Cond.constantLong "DeadlineTreeModel" (216 : Nat) (7919 : Int64)) ∈ lw_all := lw_g (lw_at lw_m5 96 rfl) rfl
theorem q1126 : (Jvm.Cond.constantLong "DeadlineTreeModel" (218 : Nat) (6151 : Int64)) ∈ lw_all := lw_g (lw_at lw_m5 97 rfl) rfl
theorem q1127 : (Jvm.Cond.constantLong "DeadlineTreeModel" (220 : Nat) (65521 : Int64)) ∈ lw_all := lw_g (lw_at lw_m5 98 rfl) rfl
theorem q1128 : (Jvm.Cond.methodLink "DeadlineTreeModel" (222 : Nat) ({ cls := "DeadlineTreeModel", name := "dayTurn", desc := "(J)V" } : Jvm.MethodName)) ∈ lw_all := lw_g (lw_at lw_m5 99 rfl) rfl
theorem q1129 : (Jvm.Cond.privateMethod ({ cls := "DeadlineTreeModel", name := "dayTurn", desc := "(J)V" } : Jvm.MethodName)) ∈ lw_tbl := lw_at lw_m5 100 rfl
theorem q1130 : (Jvm.Cond.instanceMethod ({ cls := "DeadlineTreeModel", name := "dayTurn", desc := "(J)V" } : Jvm.MethodName)) ∈ lw_all := lw_g (lw_at lw_m5 101 rfl) rfl
theorem q1131 : (Jvm.Cond.code ({ cls := "DeadlineTreeModel", name := "dayTurn", desc := "(J)V" } : Jvm.MethodName) prog_11_method_53_code (5 : Nat) (Option.none : Option Jvm.ClassFile.FieldType)) ∈ lw_all := lw_g (lw_at lw_m5 102 rfl) rfl
theorem q1133 : (Jvm.Cond.instanceMethod ({ cls := "DeadlineTreeModel", name := "count", desc := "(I)I" } : Jvm.MethodName)) ∈ lw_all := lw_g (lw_at lw_m5 104 rfl) rfl
theorem q1134 : (Jvm.Cond.selects "DeadlineTreeModel" ({ cls := "DeadlineTreeModel", name := "count", desc := "(I)I" } : Jvm.MethodName) ({ cls := "DeadlineTreeModel", name := "count", desc := "(I)I" } : Jvm.MethodName)) ∈ lw_all := lw_g (lw_at lw_m5 105 rfl) rfl
theorem q1135 : (Jvm.Cond.code ({ cls := "DeadlineTreeModel", name := "count", desc := "(I)I" } : Jvm.MethodName) prog_11_method_56_code (2 : Nat) (Option.some Jvm.ClassFile.FieldType.int)) ∈ lw_all := lw_g (lw_at lw_m5 106 rfl) rfl
theorem q1136 : (Jvm.Cond.methodLink "DeadlineTreeModel" (226 : Nat) ({ cls := "DeadlineTreeModel", name := "holdNone", desc := "()I" } : Jvm.MethodName)) ∈ lw_all := lw_g (lw_at lw_m5 107 rfl) rfl
theorem q1137 : (Jvm.Cond.privateMethod ({ cls := "DeadlineTreeModel", name := "holdNone", desc := "()I" } : Jvm.MethodName)) ∈ lw_tbl := lw_at lw_m5 108 rfl
theorem q1138 : (Jvm.Cond.instanceMethod ({ cls := "DeadlineTreeModel", name := "holdNone", desc := "()I" } : Jvm.MethodName)) ∈ lw_all := lw_g (lw_at lw_m5 109 rfl) rfl
theorem q1139 : (Jvm.Cond.code ({ cls := "DeadlineTreeModel", name := "holdNone", desc := "()I" } : Jvm.MethodName) prog_11_method_55_code (4 : Nat) (Option.some Jvm.ClassFile.FieldType.int)) ∈ lw_all := lw_g (lw_at lw_m5 110 rfl) rfl
theorem q1141 : (Jvm.Cond.instanceMethod ({ cls := "DeadlineTreeModel", name := "write", desc := "(I)I" } : Jvm.MethodName)) ∈ lw_all := lw_g (lw_at lw_m5 112 rfl) rfl
theorem q1142 : (Jvm.Cond.selects "DeadlineTreeModel" ({ cls := "DeadlineTreeModel", name := "write", desc := "(I)I" } : Jvm.MethodName) ({ cls := "DeadlineTreeModel", name := "write", desc := "(I)I" } : Jvm.MethodName)) ∈ lw_all := lw_g (lw_at lw_m5 113 rfl) rfl
theorem q1143 : (Jvm.Cond.code ({ cls := "DeadlineTreeModel", name := "write", desc := "(I)I" } : Jvm.MethodName) prog_11_method_57_code (2 : Nat) (Option.some Jvm.ClassFile.FieldType.int)) ∈ lw_all := lw_g (lw_at lw_m5 114 rfl) rfl
theorem q1145 : (Jvm.Cond.instanceMethod ({ cls := "DeadlineTreeModel", name := "wipe", desc := "()I" } : Jvm.MethodName)) ∈ lw_all := lw_g (lw_at lw_m5 116 rfl) rfl
theorem q1146 : (Jvm.Cond.selects "DeadlineTreeModel" ({ cls := "DeadlineTreeModel", name := "wipe", desc := "()I" } : Jvm.MethodName) ({ cls := "DeadlineTreeModel", name := "wipe", desc := "()I" } : Jvm.MethodName)) ∈ lw_all := lw_g (lw_at lw_m5 117 rfl) rfl
theorem q1147 : (Jvm.Cond.code ({ cls := "DeadlineTreeModel", name := "wipe", desc := "()I" } : Jvm.MethodName) prog_11_method_58_code (2 : Nat) (Option.some Jvm.ClassFile.FieldType.int)) ∈ lw_all := lw_g (lw_at lw_m5 118 rfl) rfl
theorem q1149 : (Jvm.Cond.instanceMethod ({ cls := "DeadlineTreeModel", name := "fault", desc := "()I" } : Jvm.MethodName)) ∈ lw_all := lw_g (lw_at lw_m5 120 rfl) rfl
theorem q1150 : (Jvm.Cond.selects "DeadlineTreeModel" ({ cls := "DeadlineTreeModel", name := "fault", desc := "()I" } : Jvm.MethodName) ({ cls := "DeadlineTreeModel", name := "fault", desc := "()I" } : Jvm.MethodName)) ∈ lw_all := lw_g (lw_at lw_m5 121 rfl) rfl
theorem q1151 : (Jvm.Cond.code ({ cls := "DeadlineTreeModel", name := "fault", desc := "()I" } : Jvm.MethodName) prog_11_method_63_code (2 : Nat) (Option.some Jvm.ClassFile.FieldType.int)) ∈ lw_all := lw_g (lw_at lw_m5 122 rfl) rfl
theorem q1152 : (Jvm.Cond.methodLink "DeadlineTreeModel" (251 : Nat) ({ cls := "DeadlineTreeModel", name := "readsJob", desc := "()Z" } : Jvm.MethodName)) ∈ lw_all := lw_g (lw_at lw_m5 123 rfl) rfl
theorem q1153 : (Jvm.Cond.privateMethod ({ cls := "DeadlineTreeModel", name := "readsJob", desc := "()Z" } : Jvm.MethodName)) ∈ lw_tbl := lw_at lw_m5 124 rfl
theorem q1154 : (Jvm.Cond.instanceMethod ({ cls := "DeadlineTreeModel", name := "readsJob", desc := "()Z" } : Jvm.MethodName)) ∈ lw_all := lw_g (lw_at lw_m5 125 rfl) rfl
theorem q1155 : (Jvm.Cond.code ({ cls := "DeadlineTreeModel", name := "readsJob", desc := "()Z" } : Jvm.MethodName) prog_11_method_62_code (2 : Nat) (Option.some Jvm.ClassFile.FieldType.boolean)) ∈ lw_all := lw_g (lw_at lw_m5 126 rfl) rfl
theorem q1156 : (Jvm.Cond.methodLink "DeadlineTreeModel" (235 : Nat) ({ cls := "DeadlineTreeModel", name := "here", desc := "()I" } : Jvm.MethodName)) ∈ lw_all := lw_g (lw_at lw_m5 127 rfl) rfl
theorem q1157 : (Jvm.Cond.privateMethod ({ cls := "DeadlineTreeModel", name := "here", desc := "()I" } : Jvm.MethodName)) ∈ lw_tbl := lw_at lw_m5 128 rfl
theorem q1158 : (Jvm.Cond.instanceMethod ({ cls := "DeadlineTreeModel", name := "here", desc := "()I" } : Jvm.MethodName)) ∈ lw_all := lw_g (lw_at lw_m5 129 rfl) rfl
theorem q1159 : (Jvm.Cond.code ({ cls := "DeadlineTreeModel", name := "here", desc := "()I" } : Jvm.MethodName) prog_11_method_59_code (1 : Nat) (Option.some Jvm.ClassFile.FieldType.int)) ∈ lw_all := lw_g (lw_at lw_m5 130 rfl) rfl
theorem q1160 : (Jvm.Cond.methodLink "DeadlineTreeModel" (248 : Nat) ({ cls := "DeadlineTreeModel", name := "number", desc := "(III)Z" } : Jvm.MethodName)) ∈ lw_all := lw_g (lw_at lw_m5 131 rfl) rfl
theorem q1161 : (Jvm.Cond.privateMethod ({ cls := "DeadlineTreeModel", name := "number", desc := "(III)Z" } : Jvm.MethodName)) ∈ lw_tbl := lw_at lw_m5 132 rfl
theorem q1162 : (Jvm.Cond.instanceMethod ({ cls := "DeadlineTreeModel", name := "number", desc := "(III)Z" } : Jvm.MethodName)) ∈ lw_all := lw_g (lw_at lw_m5 133 rfl) rfl
theorem q1163 : (Jvm.Cond.code ({ cls := "DeadlineTreeModel", name := "number", desc := "(III)Z" } : Jvm.MethodName) prog_11_method_61_code (5 : Nat) (Option.some Jvm.ClassFile.FieldType.boolean)) ∈ lw_all := lw_g (lw_at lw_m5 134 rfl) rfl
theorem q1164 : (Jvm.Cond.methodLink "DeadlineTreeModel" (238 : Nat) ({ cls := "DeadlineTreeModel", name := "isFigure", desc := "()Z" } : Jvm.MethodName)) ∈ lw_all := lw_g (lw_at lw_m5 135 rfl) rfl
theorem q1165 : (Jvm.Cond.privateMethod ({ cls := "DeadlineTreeModel", name := "isFigure", desc := "()Z" } : Jvm.MethodName)) ∈ lw_tbl := lw_at lw_m5 136 rfl
theorem q1166 : (Jvm.Cond.instanceMethod ({ cls := "DeadlineTreeModel", name := "isFigure", desc := "()Z" } : Jvm.MethodName)) ∈ lw_all := lw_g (lw_at lw_m5 137 rfl) rfl
theorem q1167 : (Jvm.Cond.code ({ cls := "DeadlineTreeModel", name := "isFigure", desc := "()Z" } : Jvm.MethodName) prog_11_method_60_code (1 : Nat) (Option.some Jvm.ClassFile.FieldType.boolean)) ∈ lw_all := lw_g (lw_at lw_m5 138 rfl) rfl
theorem q1169 : (Jvm.Cond.instanceMethod ({ cls := "DeadlineTreeModel", name := "lay", desc := "()I" } : Jvm.MethodName)) ∈ lw_all := lw_g (lw_at lw_m5 140 rfl) rfl
theorem q1170 : (Jvm.Cond.selects "DeadlineTreeModel" ({ cls := "DeadlineTreeModel", name := "lay", desc := "()I" } : Jvm.MethodName) ({ cls := "DeadlineTreeModel", name := "lay", desc := "()I" } : Jvm.MethodName)) ∈ lw_all := lw_g (lw_at lw_m5 141 rfl) rfl
theorem q1171 : (Jvm.Cond.code ({ cls := "DeadlineTreeModel", name := "lay", desc := "()I" } : Jvm.MethodName) prog_11_method_64_code (2 : Nat) (Option.some Jvm.ClassFile.FieldType.int)) ∈ lw_all := lw_g (lw_at lw_m5 142 rfl) rfl
theorem q1172 : (Jvm.Cond.methodLink "DeadlineTreeModel" (254 : Nat) ({ cls := "DeadlineTreeModel", name := "fault", desc := "()I" } : Jvm.MethodName)) ∈ lw_all := lw_g (lw_at lw_m5 143 rfl) rfl
theorem in_X8 : ∀ w ∈ wsX80, w ∈ lw_all := lw_in wsX80 [905, 907, 909, 911, 913, 915, 917, 919, 921, 923, 925, 927, 929, 931, 933, 935, 937, 939, 941, 943, 945, 947, 949, 951, 953, 955, 957, 959, 961, 963, 965, 967, 969] (by decide +kernel) (by decide +kernel)
