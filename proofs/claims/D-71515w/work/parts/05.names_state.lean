/-! DeadlineTree$State -/
set_option maxRecDepth 100000
def RX1 : String := "DeadlineTree$State"
def TX1 : u_T := fun k => match k with
  | 0 => ("DeadlineTree$State", "there", "I", false)
  | 1 => ("DeadlineTree$State", "taken", "I", false)
  | 2 => ("DeadlineTree$State", "root", "LDeadlineTree$Node;", false)
  | 3 => ("DeadlineTree$State", "nodes", "[LDeadlineTree$Node;", true)
  | 4 => ("DeadlineTree$State", "of", "[B", true)
  | 5 => ("DeadlineTree$State", "starts", "[B", true)
  | 6 => ("DeadlineTree$State", "deadlines", "[B", true)
  | 7 => ("DeadlineTree$State", "lengths", "[B", true)
  | 8 => ("DeadlineTree$State", "gathered", "I", false)
  | 9 => ("DeadlineTree$State", "row", "[B", true)
  | 10 => ("DeadlineTree$State", "heldMany", "I", false)
  | 11 => ("DeadlineTree$State", "held", "[B", true)
  | _ => ("DeadlineTree$State", "this$0", "LDeadlineTree;", true)
def tyX1 : Nat → FieldType := fun k => match k with
  | 0 => .int
  | 1 => .int
  | 2 => .object "DeadlineTree$Node"
  | 3 => .array (.object "DeadlineTree$Node")
  | 4 => .array .byte
  | 5 => .array .byte
  | 6 => .array .byte
  | 7 => .array .byte
  | 8 => .int
  | 9 => .array .byte
  | 10 => .int
  | 11 => .array .byte
  | _ => .object "DeadlineTree"
abbrev wsX10 : List Cond := u_ws RX1 TX1 13
set_option maxRecDepth 100000 in
theorem nmX1 : ∀ a, a < 13 → ∀ b, b < 13 → a ≠ b → (TX1 a).2.1 ≠ (TX1 b).2.1 := by decide +kernel
set_option maxRecDepth 100000 in
theorem tyX1_ok : ∀ k, k < 13 → parseFieldDescriptor (TX1 k).2.2.1 = some (tyX1 k) := by decide +kernel
abbrev cX1_init : ByteArray := prog_8_method_1_code
def yX1_init : MethodName := ⟨RX1, "<init>", "(LDeadlineTree;)V"⟩
def dkwX1_init_3 : List UInt8 := [162, 0, 23, 42, 180, 0, 17, 28, 187, 0, 15, 89, 28, 183, 0, 40, 83, 132, 2, 1, 167, 255, 233, 177]
abbrev dktX1_init_3 : List UInt8 := dkwX1_init_3 ++ []
def dkwX1_init_2 : List UInt8 := [181, 0, 31, 42, 16, 12, 188, 8, 181, 0, 34, 42, 16, 12, 188, 8, 181, 0, 37, 3, 61, 28, 16, 23]
abbrev dktX1_init_2 : List UInt8 := dkwX1_init_2 ++ dktX1_init_3
def dkwX1_init_1 : List UInt8 := [181, 0, 21, 42, 16, 12, 188, 8, 181, 0, 25, 42, 16, 12, 188, 8, 181, 0, 28, 42, 16, 12, 188, 8]
abbrev dktX1_init_1 : List UInt8 := dkwX1_init_1 ++ dktX1_init_2
def dkwX1_init_0 : List UInt8 := [42, 43, 181, 0, 3, 42, 183, 0, 9, 42, 16, 23, 189, 0, 15, 181, 0, 17, 42, 16, 12, 188, 8]
abbrev dktX1_init_0 : List UInt8 := dkwX1_init_0 ++ dktX1_init_1
theorem dksX1_init_0 : cX1_init.data.toList.drop 0 = dktX1_init_0 := by decide +kernel
theorem dksX1_init_1 : cX1_init.data.toList.drop 23 = dktX1_init_1 := dk_seg dksX1_init_0 23 rfl rfl
theorem dksX1_init_2 : cX1_init.data.toList.drop 47 = dktX1_init_2 := dk_seg dksX1_init_1 24 rfl rfl
theorem dksX1_init_3 : cX1_init.data.toList.drop 71 = dktX1_init_3 := dk_seg dksX1_init_2 24 rfl rfl
theorem dX1_init_0 : decode cX1_init 0 = .ok (.aload_n 0, 1) := dk_42 (dk_at dksX1_init_0 0 rfl rfl)
theorem dX1_init_1 : decode cX1_init 1 = .ok (.aload_n 1, 1) := dk_43 (dk_at dksX1_init_0 1 rfl rfl)
theorem dX1_init_2 : decode cX1_init 2 = .ok (.putfield 3, 3) := dk_181 0 3 (dk_at dksX1_init_0 2 rfl rfl)
theorem dX1_init_5 : decode cX1_init 5 = .ok (.aload_n 0, 1) := dk_42 (dk_at dksX1_init_0 5 rfl rfl)
theorem dX1_init_6 : decode cX1_init 6 = .ok (.invokespecial 9, 3) := dk_183 0 9 (dk_at dksX1_init_0 6 rfl rfl)
theorem dX1_init_9 : decode cX1_init 9 = .ok (.aload_n 0, 1) := dk_42 (dk_at dksX1_init_0 9 rfl rfl)
theorem dX1_init_10 : decode cX1_init 10 = .ok (.bipush 23, 2) := dk_16 23 (dk_at dksX1_init_0 10 rfl rfl)
theorem dX1_init_12 : decode cX1_init 12 = .ok (.anewarray 15, 3) := dk_189 0 15 (dk_at dksX1_init_0 12 rfl rfl)
theorem dX1_init_15 : decode cX1_init 15 = .ok (.putfield 17, 3) := dk_181 0 17 (dk_at dksX1_init_0 15 rfl rfl)
theorem dX1_init_18 : decode cX1_init 18 = .ok (.aload_n 0, 1) := dk_42 (dk_at dksX1_init_0 18 rfl rfl)
theorem dX1_init_19 : decode cX1_init 19 = .ok (.bipush 12, 2) := dk_16 12 (dk_at dksX1_init_0 19 rfl rfl)
theorem dX1_init_21 : decode cX1_init 21 = .ok (.newarray .byte, 2) := dk_188_8 (dk_at dksX1_init_0 21 rfl rfl)
theorem dX1_init_23 : decode cX1_init 23 = .ok (.putfield 21, 3) := dk_181 0 21 (dk_at dksX1_init_1 0 rfl rfl)
theorem dX1_init_26 : decode cX1_init 26 = .ok (.aload_n 0, 1) := dk_42 (dk_at dksX1_init_1 3 rfl rfl)
theorem dX1_init_27 : decode cX1_init 27 = .ok (.bipush 12, 2) := dk_16 12 (dk_at dksX1_init_1 4 rfl rfl)
theorem dX1_init_29 : decode cX1_init 29 = .ok (.newarray .byte, 2) := dk_188_8 (dk_at dksX1_init_1 6 rfl rfl)
theorem dX1_init_31 : decode cX1_init 31 = .ok (.putfield 25, 3) := dk_181 0 25 (dk_at dksX1_init_1 8 rfl rfl)
theorem dX1_init_34 : decode cX1_init 34 = .ok (.aload_n 0, 1) := dk_42 (dk_at dksX1_init_1 11 rfl rfl)
theorem dX1_init_35 : decode cX1_init 35 = .ok (.bipush 12, 2) := dk_16 12 (dk_at dksX1_init_1 12 rfl rfl)
theorem dX1_init_37 : decode cX1_init 37 = .ok (.newarray .byte, 2) := dk_188_8 (dk_at dksX1_init_1 14 rfl rfl)
theorem dX1_init_39 : decode cX1_init 39 = .ok (.putfield 28, 3) := dk_181 0 28 (dk_at dksX1_init_1 16 rfl rfl)
theorem dX1_init_42 : decode cX1_init 42 = .ok (.aload_n 0, 1) := dk_42 (dk_at dksX1_init_1 19 rfl rfl)
theorem dX1_init_43 : decode cX1_init 43 = .ok (.bipush 12, 2) := dk_16 12 (dk_at dksX1_init_1 20 rfl rfl)
theorem dX1_init_45 : decode cX1_init 45 = .ok (.newarray .byte, 2) := dk_188_8 (dk_at dksX1_init_1 22 rfl rfl)
theorem dX1_init_47 : decode cX1_init 47 = .ok (.putfield 31, 3) := dk_181 0 31 (dk_at dksX1_init_2 0 rfl rfl)
theorem dX1_init_50 : decode cX1_init 50 = .ok (.aload_n 0, 1) := dk_42 (dk_at dksX1_init_2 3 rfl rfl)
theorem dX1_init_51 : decode cX1_init 51 = .ok (.bipush 12, 2) := dk_16 12 (dk_at dksX1_init_2 4 rfl rfl)
theorem dX1_init_53 : decode cX1_init 53 = .ok (.newarray .byte, 2) := dk_188_8 (dk_at dksX1_init_2 6 rfl rfl)
theorem dX1_init_55 : decode cX1_init 55 = .ok (.putfield 34, 3) := dk_181 0 34 (dk_at dksX1_init_2 8 rfl rfl)
theorem dX1_init_58 : decode cX1_init 58 = .ok (.aload_n 0, 1) := dk_42 (dk_at dksX1_init_2 11 rfl rfl)
theorem dX1_init_59 : decode cX1_init 59 = .ok (.bipush 12, 2) := dk_16 12 (dk_at dksX1_init_2 12 rfl rfl)
theorem dX1_init_61 : decode cX1_init 61 = .ok (.newarray .byte, 2) := dk_188_8 (dk_at dksX1_init_2 14 rfl rfl)
theorem dX1_init_63 : decode cX1_init 63 = .ok (.putfield 37, 3) := dk_181 0 37 (dk_at dksX1_init_2 16 rfl rfl)
theorem dX1_init_66 : decode cX1_init 66 = .ok (.iconst 0, 1) := dk_3 (dk_at dksX1_init_2 19 rfl rfl)
theorem dX1_init_67 : decode cX1_init 67 = .ok (.istore_n 2, 1) := dk_61 (dk_at dksX1_init_2 20 rfl rfl)
theorem dX1_init_68 : decode cX1_init 68 = .ok (.iload_n 2, 1) := dk_28 (dk_at dksX1_init_2 21 rfl rfl)
theorem dX1_init_69 : decode cX1_init 69 = .ok (.bipush 23, 2) := dk_16 23 (dk_at dksX1_init_2 22 rfl rfl)
theorem dX1_init_71 : decode cX1_init 71 = .ok (.if_icmp .ge 23, 3) := dk_162 0 23 (dk_at dksX1_init_3 0 rfl rfl)
theorem dX1_init_74 : decode cX1_init 74 = .ok (.aload_n 0, 1) := dk_42 (dk_at dksX1_init_3 3 rfl rfl)
theorem dX1_init_75 : decode cX1_init 75 = .ok (.getfield 17, 3) := dk_180 0 17 (dk_at dksX1_init_3 4 rfl rfl)
theorem dX1_init_78 : decode cX1_init 78 = .ok (.iload_n 2, 1) := dk_28 (dk_at dksX1_init_3 7 rfl rfl)
theorem dX1_init_79 : decode cX1_init 79 = .ok (.new 15, 3) := dk_187 0 15 (dk_at dksX1_init_3 8 rfl rfl)
theorem dX1_init_82 : decode cX1_init 82 = .ok (.dup, 1) := dk_89 (dk_at dksX1_init_3 11 rfl rfl)
theorem dX1_init_83 : decode cX1_init 83 = .ok (.iload_n 2, 1) := dk_28 (dk_at dksX1_init_3 12 rfl rfl)
theorem dX1_init_84 : decode cX1_init 84 = .ok (.invokespecial 40, 3) := dk_183 0 40 (dk_at dksX1_init_3 13 rfl rfl)
theorem dX1_init_87 : decode cX1_init 87 = .ok (.aastore, 1) := dk_83 (dk_at dksX1_init_3 16 rfl rfl)
theorem dX1_init_88 : decode cX1_init 88 = .ok (.iinc 2 1, 3) := dk_132 2 1 (dk_at dksX1_init_3 17 rfl rfl)
theorem dX1_init_91 : decode cX1_init 91 = .ok (.goto (-23), 3) := dk_167 255 233 (dk_at dksX1_init_3 20 rfl rfl)
theorem dX1_init_94 : decode cX1_init 94 = .ok (.return_, 1) := dk_177 (dk_at dksX1_init_3 23 rfl rfl)
abbrev cX1_clear : ByteArray := prog_8_method_4_code
def yX1_clear : MethodName := ⟨RX1, "clear", "()V"⟩
def dkwX1_clear_0 : List UInt8 := [42, 3, 181, 0, 47, 42, 3, 181, 0, 50, 42, 1, 181, 0, 53, 177]
abbrev dktX1_clear_0 : List UInt8 := dkwX1_clear_0 ++ []
theorem dksX1_clear_0 : cX1_clear.data.toList.drop 0 = dktX1_clear_0 := by decide +kernel
theorem dX1_clear_0 : decode cX1_clear 0 = .ok (.aload_n 0, 1) := dk_42 (dk_at dksX1_clear_0 0 rfl rfl)
theorem dX1_clear_1 : decode cX1_clear 1 = .ok (.iconst 0, 1) := dk_3 (dk_at dksX1_clear_0 1 rfl rfl)
theorem dX1_clear_2 : decode cX1_clear 2 = .ok (.putfield 47, 3) := dk_181 0 47 (dk_at dksX1_clear_0 2 rfl rfl)
theorem dX1_clear_5 : decode cX1_clear 5 = .ok (.aload_n 0, 1) := dk_42 (dk_at dksX1_clear_0 5 rfl rfl)
theorem dX1_clear_6 : decode cX1_clear 6 = .ok (.iconst 0, 1) := dk_3 (dk_at dksX1_clear_0 6 rfl rfl)
theorem dX1_clear_7 : decode cX1_clear 7 = .ok (.putfield 50, 3) := dk_181 0 50 (dk_at dksX1_clear_0 7 rfl rfl)
theorem dX1_clear_10 : decode cX1_clear 10 = .ok (.aload_n 0, 1) := dk_42 (dk_at dksX1_clear_0 10 rfl rfl)
theorem dX1_clear_11 : decode cX1_clear 11 = .ok (.aconst_null, 1) := dk_1 (dk_at dksX1_clear_0 11 rfl rfl)
theorem dX1_clear_12 : decode cX1_clear 12 = .ok (.putfield 53, 3) := dk_181 0 53 (dk_at dksX1_clear_0 12 rfl rfl)
theorem dX1_clear_15 : decode cX1_clear 15 = .ok (.return_, 1) := dk_177 (dk_at dksX1_clear_0 15 rfl rfl)
abbrev cX1_many : ByteArray := prog_8_method_5_code
def yX1_many : MethodName := ⟨RX1, "many", "()I"⟩
def dkwX1_many_0 : List UInt8 := [42, 180, 0, 47, 184, 0, 85, 172]
abbrev dktX1_many_0 : List UInt8 := dkwX1_many_0 ++ []
theorem dksX1_many_0 : cX1_many.data.toList.drop 0 = dktX1_many_0 := by decide +kernel
theorem dX1_many_0 : decode cX1_many 0 = .ok (.aload_n 0, 1) := dk_42 (dk_at dksX1_many_0 0 rfl rfl)
theorem dX1_many_1 : decode cX1_many 1 = .ok (.getfield 47, 3) := dk_180 0 47 (dk_at dksX1_many_0 1 rfl rfl)
theorem dX1_many_4 : decode cX1_many 4 = .ok (.invokestatic 85, 3) := dk_184 0 85 (dk_at dksX1_many_0 4 rfl rfl)
theorem dX1_many_7 : decode cX1_many 7 = .ok (.ireturn, 1) := dk_172 (dk_at dksX1_many_0 7 rfl rfl)
abbrev cX1_add : ByteArray := prog_8_method_23_code
def yX1_add : MethodName := ⟨RX1, "add", "(IIII)I"⟩
def dkwX1_add_10 : List UInt8 := [182, 0, 184, 172]
abbrev dktX1_add_10 : List UInt8 := dkwX1_add_10 ++ []
def dkwX1_add_9 : List UInt8 := [181, 0, 70, 25, 6, 5, 181, 0, 76, 42, 42, 180, 0, 53, 21, 5, 182, 0, 121, 42, 28, 21, 5]
abbrev dktX1_add_9 : List UInt8 := dkwX1_add_9 ++ dktX1_add_10
def dkwX1_add_8 : List UInt8 := [25, 10, 181, 0, 64, 25, 6, 25, 9, 180, 0, 67, 181, 0, 67, 25, 6, 25, 9, 180, 0, 70]
abbrev dktX1_add_8 : List UInt8 := dkwX1_add_8 ++ dktX1_add_9
def dkwX1_add_7 : List UInt8 := [153, 0, 8, 21, 7, 167, 0, 5, 21, 5, 182, 0, 153, 58, 10, 25, 6, 25, 9, 181, 0, 61, 25, 6]
abbrev dktX1_add_7 : List UInt8 := dkwX1_add_7 ++ dktX1_add_8
def dkwX1_add_6 : List UInt8 := [54, 8, 42, 21, 8, 153, 0, 8, 21, 5, 167, 0, 5, 21, 7, 182, 0, 153, 58, 9, 42, 21, 8]
abbrev dktX1_add_6 : List UInt8 := dkwX1_add_6 ++ dktX1_add_7
def dkwX1_add_5 : List UInt8 := [182, 0, 118, 58, 6, 167, 255, 227, 25, 6, 180, 0, 70, 54, 7, 25, 6, 28, 21, 5, 182, 0, 181]
abbrev dktX1_add_5 : List UInt8 := dkwX1_add_5 ++ dktX1_add_6
def dkwX1_add_4 : List UInt8 := [182, 0, 140, 154, 0, 27, 25, 6, 89, 180, 0, 76, 4, 96, 181, 0, 76, 42, 25, 6, 21, 5]
abbrev dktX1_add_4 : List UInt8 := dkwX1_add_4 ++ dktX1_add_5
def dkwX1_add_3 : List UInt8 := [181, 0, 53, 42, 180, 0, 53, 21, 5, 181, 0, 73, 3, 172, 42, 180, 0, 53, 58, 6, 25, 6]
abbrev dktX1_add_3 : List UInt8 := dkwX1_add_3 ++ dktX1_add_4
def dkwX1_add_2 : List UInt8 := [4, 21, 5, 120, 128, 181, 0, 47, 42, 180, 0, 53, 199, 0, 24, 42, 42, 21, 5, 182, 0, 153]
abbrev dktX1_add_2 : List UInt8 := dkwX1_add_2 ++ dktX1_add_3
def dkwX1_add_1 : List UInt8 := [42, 180, 0, 28, 21, 5, 29, 145, 84, 42, 180, 0, 31, 21, 5, 21, 4, 145, 84, 42, 89, 180, 0, 47]
abbrev dktX1_add_1 : List UInt8 := dkwX1_add_1 ++ dktX1_add_2
def dkwX1_add_0 : List UInt8 := [42, 182, 0, 177, 54, 5, 42, 180, 0, 21, 21, 5, 27, 145, 84, 42, 180, 0, 25, 21, 5, 28, 145, 84]
abbrev dktX1_add_0 : List UInt8 := dkwX1_add_0 ++ dktX1_add_1
theorem dksX1_add_0 : cX1_add.data.toList.drop 0 = dktX1_add_0 := by decide +kernel
theorem dksX1_add_1 : cX1_add.data.toList.drop 24 = dktX1_add_1 := dk_seg dksX1_add_0 24 rfl rfl
theorem dksX1_add_2 : cX1_add.data.toList.drop 48 = dktX1_add_2 := dk_seg dksX1_add_1 24 rfl rfl
theorem dksX1_add_3 : cX1_add.data.toList.drop 70 = dktX1_add_3 := dk_seg dksX1_add_2 22 rfl rfl
theorem dksX1_add_4 : cX1_add.data.toList.drop 92 = dktX1_add_4 := dk_seg dksX1_add_3 22 rfl rfl
theorem dksX1_add_5 : cX1_add.data.toList.drop 114 = dktX1_add_5 := dk_seg dksX1_add_4 22 rfl rfl
theorem dksX1_add_6 : cX1_add.data.toList.drop 137 = dktX1_add_6 := dk_seg dksX1_add_5 23 rfl rfl
theorem dksX1_add_7 : cX1_add.data.toList.drop 160 = dktX1_add_7 := dk_seg dksX1_add_6 23 rfl rfl
theorem dksX1_add_8 : cX1_add.data.toList.drop 184 = dktX1_add_8 := dk_seg dksX1_add_7 24 rfl rfl
theorem dksX1_add_9 : cX1_add.data.toList.drop 206 = dktX1_add_9 := dk_seg dksX1_add_8 22 rfl rfl
theorem dksX1_add_10 : cX1_add.data.toList.drop 229 = dktX1_add_10 := dk_seg dksX1_add_9 23 rfl rfl
theorem dX1_add_0 : decode cX1_add 0 = .ok (.aload_n 0, 1) := dk_42 (dk_at dksX1_add_0 0 rfl rfl)
theorem dX1_add_1 : decode cX1_add 1 = .ok (.invokevirtual 177, 3) := dk_182 0 177 (dk_at dksX1_add_0 1 rfl rfl)
theorem dX1_add_4 : decode cX1_add 4 = .ok (.istore 5, 2) := dk_54 5 (dk_at dksX1_add_0 4 rfl rfl)
theorem dX1_add_6 : decode cX1_add 6 = .ok (.aload_n 0, 1) := dk_42 (dk_at dksX1_add_0 6 rfl rfl)
theorem dX1_add_7 : decode cX1_add 7 = .ok (.getfield 21, 3) := dk_180 0 21 (dk_at dksX1_add_0 7 rfl rfl)
theorem dX1_add_10 : decode cX1_add 10 = .ok (.iload 5, 2) := dk_21 5 (dk_at dksX1_add_0 10 rfl rfl)
theorem dX1_add_12 : decode cX1_add 12 = .ok (.iload_n 1, 1) := dk_27 (dk_at dksX1_add_0 12 rfl rfl)
theorem dX1_add_13 : decode cX1_add 13 = .ok (.i2b, 1) := dk_145 (dk_at dksX1_add_0 13 rfl rfl)
theorem dX1_add_14 : decode cX1_add 14 = .ok (.bastore, 1) := dk_84 (dk_at dksX1_add_0 14 rfl rfl)
theorem dX1_add_15 : decode cX1_add 15 = .ok (.aload_n 0, 1) := dk_42 (dk_at dksX1_add_0 15 rfl rfl)
theorem dX1_add_16 : decode cX1_add 16 = .ok (.getfield 25, 3) := dk_180 0 25 (dk_at dksX1_add_0 16 rfl rfl)
theorem dX1_add_19 : decode cX1_add 19 = .ok (.iload 5, 2) := dk_21 5 (dk_at dksX1_add_0 19 rfl rfl)
theorem dX1_add_21 : decode cX1_add 21 = .ok (.iload_n 2, 1) := dk_28 (dk_at dksX1_add_0 21 rfl rfl)
theorem dX1_add_22 : decode cX1_add 22 = .ok (.i2b, 1) := dk_145 (dk_at dksX1_add_0 22 rfl rfl)
theorem dX1_add_23 : decode cX1_add 23 = .ok (.bastore, 1) := dk_84 (dk_at dksX1_add_0 23 rfl rfl)
theorem dX1_add_24 : decode cX1_add 24 = .ok (.aload_n 0, 1) := dk_42 (dk_at dksX1_add_1 0 rfl rfl)
theorem dX1_add_25 : decode cX1_add 25 = .ok (.getfield 28, 3) := dk_180 0 28 (dk_at dksX1_add_1 1 rfl rfl)
theorem dX1_add_28 : decode cX1_add 28 = .ok (.iload 5, 2) := dk_21 5 (dk_at dksX1_add_1 4 rfl rfl)
theorem dX1_add_30 : decode cX1_add 30 = .ok (.iload_n 3, 1) := dk_29 (dk_at dksX1_add_1 6 rfl rfl)
theorem dX1_add_31 : decode cX1_add 31 = .ok (.i2b, 1) := dk_145 (dk_at dksX1_add_1 7 rfl rfl)
theorem dX1_add_32 : decode cX1_add 32 = .ok (.bastore, 1) := dk_84 (dk_at dksX1_add_1 8 rfl rfl)
theorem dX1_add_33 : decode cX1_add 33 = .ok (.aload_n 0, 1) := dk_42 (dk_at dksX1_add_1 9 rfl rfl)
theorem dX1_add_34 : decode cX1_add 34 = .ok (.getfield 31, 3) := dk_180 0 31 (dk_at dksX1_add_1 10 rfl rfl)
theorem dX1_add_37 : decode cX1_add 37 = .ok (.iload 5, 2) := dk_21 5 (dk_at dksX1_add_1 13 rfl rfl)
theorem dX1_add_39 : decode cX1_add 39 = .ok (.iload 4, 2) := dk_21 4 (dk_at dksX1_add_1 15 rfl rfl)
theorem dX1_add_41 : decode cX1_add 41 = .ok (.i2b, 1) := dk_145 (dk_at dksX1_add_1 17 rfl rfl)
theorem dX1_add_42 : decode cX1_add 42 = .ok (.bastore, 1) := dk_84 (dk_at dksX1_add_1 18 rfl rfl)
theorem dX1_add_43 : decode cX1_add 43 = .ok (.aload_n 0, 1) := dk_42 (dk_at dksX1_add_1 19 rfl rfl)
theorem dX1_add_44 : decode cX1_add 44 = .ok (.dup, 1) := dk_89 (dk_at dksX1_add_1 20 rfl rfl)
theorem dX1_add_45 : decode cX1_add 45 = .ok (.getfield 47, 3) := dk_180 0 47 (dk_at dksX1_add_1 21 rfl rfl)
theorem dX1_add_48 : decode cX1_add 48 = .ok (.iconst 1, 1) := dk_4 (dk_at dksX1_add_2 0 rfl rfl)
theorem dX1_add_49 : decode cX1_add 49 = .ok (.iload 5, 2) := dk_21 5 (dk_at dksX1_add_2 1 rfl rfl)
theorem dX1_add_51 : decode cX1_add 51 = .ok (.ishl, 1) := dk_120 (dk_at dksX1_add_2 3 rfl rfl)
theorem dX1_add_52 : decode cX1_add 52 = .ok (.ior, 1) := dk_128 (dk_at dksX1_add_2 4 rfl rfl)
theorem dX1_add_53 : decode cX1_add 53 = .ok (.putfield 47, 3) := dk_181 0 47 (dk_at dksX1_add_2 5 rfl rfl)
theorem dX1_add_56 : decode cX1_add 56 = .ok (.aload_n 0, 1) := dk_42 (dk_at dksX1_add_2 8 rfl rfl)
theorem dX1_add_57 : decode cX1_add 57 = .ok (.getfield 53, 3) := dk_180 0 53 (dk_at dksX1_add_2 9 rfl rfl)
theorem dX1_add_60 : decode cX1_add 60 = .ok (.ifnonnull 24, 3) := dk_199 0 24 (dk_at dksX1_add_2 12 rfl rfl)
theorem dX1_add_63 : decode cX1_add 63 = .ok (.aload_n 0, 1) := dk_42 (dk_at dksX1_add_2 15 rfl rfl)
theorem dX1_add_64 : decode cX1_add 64 = .ok (.aload_n 0, 1) := dk_42 (dk_at dksX1_add_2 16 rfl rfl)
theorem dX1_add_65 : decode cX1_add 65 = .ok (.iload 5, 2) := dk_21 5 (dk_at dksX1_add_2 17 rfl rfl)
theorem dX1_add_67 : decode cX1_add 67 = .ok (.invokevirtual 153, 3) := dk_182 0 153 (dk_at dksX1_add_2 19 rfl rfl)
theorem dX1_add_70 : decode cX1_add 70 = .ok (.putfield 53, 3) := dk_181 0 53 (dk_at dksX1_add_3 0 rfl rfl)
theorem dX1_add_73 : decode cX1_add 73 = .ok (.aload_n 0, 1) := dk_42 (dk_at dksX1_add_3 3 rfl rfl)
theorem dX1_add_74 : decode cX1_add 74 = .ok (.getfield 53, 3) := dk_180 0 53 (dk_at dksX1_add_3 4 rfl rfl)
theorem dX1_add_77 : decode cX1_add 77 = .ok (.iload 5, 2) := dk_21 5 (dk_at dksX1_add_3 7 rfl rfl)
theorem dX1_add_79 : decode cX1_add 79 = .ok (.putfield 73, 3) := dk_181 0 73 (dk_at dksX1_add_3 9 rfl rfl)
theorem dX1_add_82 : decode cX1_add 82 = .ok (.iconst 0, 1) := dk_3 (dk_at dksX1_add_3 12 rfl rfl)
theorem dX1_add_83 : decode cX1_add 83 = .ok (.ireturn, 1) := dk_172 (dk_at dksX1_add_3 13 rfl rfl)
theorem dX1_add_84 : decode cX1_add 84 = .ok (.aload_n 0, 1) := dk_42 (dk_at dksX1_add_3 14 rfl rfl)
theorem dX1_add_85 : decode cX1_add 85 = .ok (.getfield 53, 3) := dk_180 0 53 (dk_at dksX1_add_3 15 rfl rfl)
theorem dX1_add_88 : decode cX1_add 88 = .ok (.astore 6, 2) := dk_58 6 (dk_at dksX1_add_3 18 rfl rfl)
theorem dX1_add_90 : decode cX1_add 90 = .ok (.aload 6, 2) := dk_25 6 (dk_at dksX1_add_3 20 rfl rfl)
theorem dX1_add_92 : decode cX1_add 92 = .ok (.invokevirtual 140, 3) := dk_182 0 140 (dk_at dksX1_add_4 0 rfl rfl)
theorem dX1_add_95 : decode cX1_add 95 = .ok (.ifCond .ne 27, 3) := dk_154 0 27 (dk_at dksX1_add_4 3 rfl rfl)
theorem dX1_add_98 : decode cX1_add 98 = .ok (.aload 6, 2) := dk_25 6 (dk_at dksX1_add_4 6 rfl rfl)
theorem dX1_add_100 : decode cX1_add 100 = .ok (.dup, 1) := dk_89 (dk_at dksX1_add_4 8 rfl rfl)
theorem dX1_add_101 : decode cX1_add 101 = .ok (.getfield 76, 3) := dk_180 0 76 (dk_at dksX1_add_4 9 rfl rfl)
theorem dX1_add_104 : decode cX1_add 104 = .ok (.iconst 1, 1) := dk_4 (dk_at dksX1_add_4 12 rfl rfl)
theorem dX1_add_105 : decode cX1_add 105 = .ok (.iadd, 1) := dk_96 (dk_at dksX1_add_4 13 rfl rfl)
theorem dX1_add_106 : decode cX1_add 106 = .ok (.putfield 76, 3) := dk_181 0 76 (dk_at dksX1_add_4 14 rfl rfl)
theorem dX1_add_109 : decode cX1_add 109 = .ok (.aload_n 0, 1) := dk_42 (dk_at dksX1_add_4 17 rfl rfl)
theorem dX1_add_110 : decode cX1_add 110 = .ok (.aload 6, 2) := dk_25 6 (dk_at dksX1_add_4 18 rfl rfl)
theorem dX1_add_112 : decode cX1_add 112 = .ok (.iload 5, 2) := dk_21 5 (dk_at dksX1_add_4 20 rfl rfl)
theorem dX1_add_114 : decode cX1_add 114 = .ok (.invokevirtual 118, 3) := dk_182 0 118 (dk_at dksX1_add_5 0 rfl rfl)
theorem dX1_add_117 : decode cX1_add 117 = .ok (.astore 6, 2) := dk_58 6 (dk_at dksX1_add_5 3 rfl rfl)
theorem dX1_add_119 : decode cX1_add 119 = .ok (.goto (-29), 3) := dk_167 255 227 (dk_at dksX1_add_5 5 rfl rfl)
theorem dX1_add_122 : decode cX1_add 122 = .ok (.aload 6, 2) := dk_25 6 (dk_at dksX1_add_5 8 rfl rfl)
theorem dX1_add_124 : decode cX1_add 124 = .ok (.getfield 70, 3) := dk_180 0 70 (dk_at dksX1_add_5 10 rfl rfl)
theorem dX1_add_127 : decode cX1_add 127 = .ok (.istore 7, 2) := dk_54 7 (dk_at dksX1_add_5 13 rfl rfl)
theorem dX1_add_129 : decode cX1_add 129 = .ok (.aload 6, 2) := dk_25 6 (dk_at dksX1_add_5 15 rfl rfl)
theorem dX1_add_131 : decode cX1_add 131 = .ok (.iload_n 2, 1) := dk_28 (dk_at dksX1_add_5 17 rfl rfl)
theorem dX1_add_132 : decode cX1_add 132 = .ok (.iload 5, 2) := dk_21 5 (dk_at dksX1_add_5 18 rfl rfl)
theorem dX1_add_134 : decode cX1_add 134 = .ok (.invokevirtual 181, 3) := dk_182 0 181 (dk_at dksX1_add_5 20 rfl rfl)
theorem dX1_add_137 : decode cX1_add 137 = .ok (.istore 8, 2) := dk_54 8 (dk_at dksX1_add_6 0 rfl rfl)
theorem dX1_add_139 : decode cX1_add 139 = .ok (.aload_n 0, 1) := dk_42 (dk_at dksX1_add_6 2 rfl rfl)
theorem dX1_add_140 : decode cX1_add 140 = .ok (.iload 8, 2) := dk_21 8 (dk_at dksX1_add_6 3 rfl rfl)
theorem dX1_add_142 : decode cX1_add 142 = .ok (.ifCond .eq 8, 3) := dk_153 0 8 (dk_at dksX1_add_6 5 rfl rfl)
theorem dX1_add_145 : decode cX1_add 145 = .ok (.iload 5, 2) := dk_21 5 (dk_at dksX1_add_6 8 rfl rfl)
theorem dX1_add_147 : decode cX1_add 147 = .ok (.goto 5, 3) := dk_167 0 5 (dk_at dksX1_add_6 10 rfl rfl)
theorem dX1_add_150 : decode cX1_add 150 = .ok (.iload 7, 2) := dk_21 7 (dk_at dksX1_add_6 13 rfl rfl)
theorem dX1_add_152 : decode cX1_add 152 = .ok (.invokevirtual 153, 3) := dk_182 0 153 (dk_at dksX1_add_6 15 rfl rfl)
theorem dX1_add_155 : decode cX1_add 155 = .ok (.astore 9, 2) := dk_58 9 (dk_at dksX1_add_6 18 rfl rfl)
theorem dX1_add_157 : decode cX1_add 157 = .ok (.aload_n 0, 1) := dk_42 (dk_at dksX1_add_6 20 rfl rfl)
theorem dX1_add_158 : decode cX1_add 158 = .ok (.iload 8, 2) := dk_21 8 (dk_at dksX1_add_6 21 rfl rfl)
theorem dX1_add_160 : decode cX1_add 160 = .ok (.ifCond .eq 8, 3) := dk_153 0 8 (dk_at dksX1_add_7 0 rfl rfl)
theorem dX1_add_163 : decode cX1_add 163 = .ok (.iload 7, 2) := dk_21 7 (dk_at dksX1_add_7 3 rfl rfl)
theorem dX1_add_165 : decode cX1_add 165 = .ok (.goto 5, 3) := dk_167 0 5 (dk_at dksX1_add_7 5 rfl rfl)
theorem dX1_add_168 : decode cX1_add 168 = .ok (.iload 5, 2) := dk_21 5 (dk_at dksX1_add_7 8 rfl rfl)
theorem dX1_add_170 : decode cX1_add 170 = .ok (.invokevirtual 153, 3) := dk_182 0 153 (dk_at dksX1_add_7 10 rfl rfl)
theorem dX1_add_173 : decode cX1_add 173 = .ok (.astore 10, 2) := dk_58 10 (dk_at dksX1_add_7 13 rfl rfl)
theorem dX1_add_175 : decode cX1_add 175 = .ok (.aload 6, 2) := dk_25 6 (dk_at dksX1_add_7 15 rfl rfl)
theorem dX1_add_177 : decode cX1_add 177 = .ok (.aload 9, 2) := dk_25 9 (dk_at dksX1_add_7 17 rfl rfl)
theorem dX1_add_179 : decode cX1_add 179 = .ok (.putfield 61, 3) := dk_181 0 61 (dk_at dksX1_add_7 19 rfl rfl)
theorem dX1_add_182 : decode cX1_add 182 = .ok (.aload 6, 2) := dk_25 6 (dk_at dksX1_add_7 22 rfl rfl)
theorem dX1_add_184 : decode cX1_add 184 = .ok (.aload 10, 2) := dk_25 10 (dk_at dksX1_add_8 0 rfl rfl)
theorem dX1_add_186 : decode cX1_add 186 = .ok (.putfield 64, 3) := dk_181 0 64 (dk_at dksX1_add_8 2 rfl rfl)
theorem dX1_add_189 : decode cX1_add 189 = .ok (.aload 6, 2) := dk_25 6 (dk_at dksX1_add_8 5 rfl rfl)
theorem dX1_add_191 : decode cX1_add 191 = .ok (.aload 9, 2) := dk_25 9 (dk_at dksX1_add_8 7 rfl rfl)
theorem dX1_add_193 : decode cX1_add 193 = .ok (.getfield 67, 3) := dk_180 0 67 (dk_at dksX1_add_8 9 rfl rfl)
theorem dX1_add_196 : decode cX1_add 196 = .ok (.putfield 67, 3) := dk_181 0 67 (dk_at dksX1_add_8 12 rfl rfl)
theorem dX1_add_199 : decode cX1_add 199 = .ok (.aload 6, 2) := dk_25 6 (dk_at dksX1_add_8 15 rfl rfl)
theorem dX1_add_201 : decode cX1_add 201 = .ok (.aload 9, 2) := dk_25 9 (dk_at dksX1_add_8 17 rfl rfl)
theorem dX1_add_203 : decode cX1_add 203 = .ok (.getfield 70, 3) := dk_180 0 70 (dk_at dksX1_add_8 19 rfl rfl)
theorem dX1_add_206 : decode cX1_add 206 = .ok (.putfield 70, 3) := dk_181 0 70 (dk_at dksX1_add_9 0 rfl rfl)
theorem dX1_add_209 : decode cX1_add 209 = .ok (.aload 6, 2) := dk_25 6 (dk_at dksX1_add_9 3 rfl rfl)
theorem dX1_add_211 : decode cX1_add 211 = .ok (.iconst 2, 1) := dk_5 (dk_at dksX1_add_9 5 rfl rfl)
theorem dX1_add_212 : decode cX1_add 212 = .ok (.putfield 76, 3) := dk_181 0 76 (dk_at dksX1_add_9 6 rfl rfl)
theorem dX1_add_215 : decode cX1_add 215 = .ok (.aload_n 0, 1) := dk_42 (dk_at dksX1_add_9 9 rfl rfl)
theorem dX1_add_216 : decode cX1_add 216 = .ok (.aload_n 0, 1) := dk_42 (dk_at dksX1_add_9 10 rfl rfl)
theorem dX1_add_217 : decode cX1_add 217 = .ok (.getfield 53, 3) := dk_180 0 53 (dk_at dksX1_add_9 11 rfl rfl)
theorem dX1_add_220 : decode cX1_add 220 = .ok (.iload 5, 2) := dk_21 5 (dk_at dksX1_add_9 14 rfl rfl)
theorem dX1_add_222 : decode cX1_add 222 = .ok (.invokevirtual 121, 3) := dk_182 0 121 (dk_at dksX1_add_9 16 rfl rfl)
theorem dX1_add_225 : decode cX1_add 225 = .ok (.aload_n 0, 1) := dk_42 (dk_at dksX1_add_9 19 rfl rfl)
theorem dX1_add_226 : decode cX1_add 226 = .ok (.iload_n 2, 1) := dk_28 (dk_at dksX1_add_9 20 rfl rfl)
theorem dX1_add_227 : decode cX1_add 227 = .ok (.iload 5, 2) := dk_21 5 (dk_at dksX1_add_9 21 rfl rfl)
theorem dX1_add_229 : decode cX1_add 229 = .ok (.invokevirtual 184, 3) := dk_182 0 184 (dk_at dksX1_add_10 0 rfl rfl)
theorem dX1_add_232 : decode cX1_add 232 = .ok (.ireturn, 1) := dk_172 (dk_at dksX1_add_10 3 rfl rfl)
abbrev cX1_free : ByteArray := prog_8_method_6_code
def yX1_free : MethodName := ⟨RX1, "free", "()I"⟩
def dkwX1_free_0 : List UInt8 := [42, 180, 0, 47, 2, 130, 184, 0, 91, 172]
abbrev dktX1_free_0 : List UInt8 := dkwX1_free_0 ++ []
theorem dksX1_free_0 : cX1_free.data.toList.drop 0 = dktX1_free_0 := by decide +kernel
theorem dX1_free_0 : decode cX1_free 0 = .ok (.aload_n 0, 1) := dk_42 (dk_at dksX1_free_0 0 rfl rfl)
theorem dX1_free_1 : decode cX1_free 1 = .ok (.getfield 47, 3) := dk_180 0 47 (dk_at dksX1_free_0 1 rfl rfl)
theorem dX1_free_4 : decode cX1_free 4 = .ok (.iconst (-1), 1) := dk_2 (dk_at dksX1_free_0 4 rfl rfl)
theorem dX1_free_5 : decode cX1_free 5 = .ok (.ixor, 1) := dk_130 (dk_at dksX1_free_0 5 rfl rfl)
theorem dX1_free_6 : decode cX1_free 6 = .ok (.invokestatic 91, 3) := dk_184 0 91 (dk_at dksX1_free_0 6 rfl rfl)
theorem dX1_free_9 : decode cX1_free 9 = .ok (.ireturn, 1) := dk_172 (dk_at dksX1_free_0 9 rfl rfl)
abbrev cX1_leaf : ByteArray := prog_8_method_9_code
def yX1_leaf : MethodName := ⟨RX1, "leaf", "(I)LDeadlineTree$Node;"⟩
def dkwX1_leaf_2 : List UInt8 := [181, 0, 67, 45, 27, 181, 0, 70, 45, 16, 252, 181, 0, 73, 45, 4, 181, 0, 76, 45, 176]
abbrev dktX1_leaf_2 : List UInt8 := dkwX1_leaf_2 ++ []
def dkwX1_leaf_1 : List UInt8 := [120, 128, 181, 0, 50, 45, 1, 181, 0, 61, 45, 1, 181, 0, 64, 45, 42, 180, 0, 25, 27, 51]
abbrev dktX1_leaf_1 : List UInt8 := dkwX1_leaf_1 ++ dktX1_leaf_2
def dkwX1_leaf_0 : List UInt8 := [42, 180, 0, 50, 2, 130, 184, 0, 91, 61, 42, 180, 0, 17, 28, 50, 78, 42, 89, 180, 0, 50, 4, 28]
abbrev dktX1_leaf_0 : List UInt8 := dkwX1_leaf_0 ++ dktX1_leaf_1
theorem dksX1_leaf_0 : cX1_leaf.data.toList.drop 0 = dktX1_leaf_0 := by decide +kernel
theorem dksX1_leaf_1 : cX1_leaf.data.toList.drop 24 = dktX1_leaf_1 := dk_seg dksX1_leaf_0 24 rfl rfl
theorem dksX1_leaf_2 : cX1_leaf.data.toList.drop 46 = dktX1_leaf_2 := dk_seg dksX1_leaf_1 22 rfl rfl
theorem dX1_leaf_0 : decode cX1_leaf 0 = .ok (.aload_n 0, 1) := dk_42 (dk_at dksX1_leaf_0 0 rfl rfl)
theorem dX1_leaf_1 : decode cX1_leaf 1 = .ok (.getfield 50, 3) := dk_180 0 50 (dk_at dksX1_leaf_0 1 rfl rfl)
theorem dX1_leaf_4 : decode cX1_leaf 4 = .ok (.iconst (-1), 1) := dk_2 (dk_at dksX1_leaf_0 4 rfl rfl)
theorem dX1_leaf_5 : decode cX1_leaf 5 = .ok (.ixor, 1) := dk_130 (dk_at dksX1_leaf_0 5 rfl rfl)
theorem dX1_leaf_6 : decode cX1_leaf 6 = .ok (.invokestatic 91, 3) := dk_184 0 91 (dk_at dksX1_leaf_0 6 rfl rfl)
theorem dX1_leaf_9 : decode cX1_leaf 9 = .ok (.istore_n 2, 1) := dk_61 (dk_at dksX1_leaf_0 9 rfl rfl)
theorem dX1_leaf_10 : decode cX1_leaf 10 = .ok (.aload_n 0, 1) := dk_42 (dk_at dksX1_leaf_0 10 rfl rfl)
theorem dX1_leaf_11 : decode cX1_leaf 11 = .ok (.getfield 17, 3) := dk_180 0 17 (dk_at dksX1_leaf_0 11 rfl rfl)
theorem dX1_leaf_14 : decode cX1_leaf 14 = .ok (.iload_n 2, 1) := dk_28 (dk_at dksX1_leaf_0 14 rfl rfl)
theorem dX1_leaf_15 : decode cX1_leaf 15 = .ok (.aaload, 1) := dk_50 (dk_at dksX1_leaf_0 15 rfl rfl)
theorem dX1_leaf_16 : decode cX1_leaf 16 = .ok (.astore_n 3, 1) := dk_78 (dk_at dksX1_leaf_0 16 rfl rfl)
theorem dX1_leaf_17 : decode cX1_leaf 17 = .ok (.aload_n 0, 1) := dk_42 (dk_at dksX1_leaf_0 17 rfl rfl)
theorem dX1_leaf_18 : decode cX1_leaf 18 = .ok (.dup, 1) := dk_89 (dk_at dksX1_leaf_0 18 rfl rfl)
theorem dX1_leaf_19 : decode cX1_leaf 19 = .ok (.getfield 50, 3) := dk_180 0 50 (dk_at dksX1_leaf_0 19 rfl rfl)
theorem dX1_leaf_22 : decode cX1_leaf 22 = .ok (.iconst 1, 1) := dk_4 (dk_at dksX1_leaf_0 22 rfl rfl)
theorem dX1_leaf_23 : decode cX1_leaf 23 = .ok (.iload_n 2, 1) := dk_28 (dk_at dksX1_leaf_0 23 rfl rfl)
theorem dX1_leaf_24 : decode cX1_leaf 24 = .ok (.ishl, 1) := dk_120 (dk_at dksX1_leaf_1 0 rfl rfl)
theorem dX1_leaf_25 : decode cX1_leaf 25 = .ok (.ior, 1) := dk_128 (dk_at dksX1_leaf_1 1 rfl rfl)
theorem dX1_leaf_26 : decode cX1_leaf 26 = .ok (.putfield 50, 3) := dk_181 0 50 (dk_at dksX1_leaf_1 2 rfl rfl)
theorem dX1_leaf_29 : decode cX1_leaf 29 = .ok (.aload_n 3, 1) := dk_45 (dk_at dksX1_leaf_1 5 rfl rfl)
theorem dX1_leaf_30 : decode cX1_leaf 30 = .ok (.aconst_null, 1) := dk_1 (dk_at dksX1_leaf_1 6 rfl rfl)
theorem dX1_leaf_31 : decode cX1_leaf 31 = .ok (.putfield 61, 3) := dk_181 0 61 (dk_at dksX1_leaf_1 7 rfl rfl)
theorem dX1_leaf_34 : decode cX1_leaf 34 = .ok (.aload_n 3, 1) := dk_45 (dk_at dksX1_leaf_1 10 rfl rfl)
theorem dX1_leaf_35 : decode cX1_leaf 35 = .ok (.aconst_null, 1) := dk_1 (dk_at dksX1_leaf_1 11 rfl rfl)
theorem dX1_leaf_36 : decode cX1_leaf 36 = .ok (.putfield 64, 3) := dk_181 0 64 (dk_at dksX1_leaf_1 12 rfl rfl)
theorem dX1_leaf_39 : decode cX1_leaf 39 = .ok (.aload_n 3, 1) := dk_45 (dk_at dksX1_leaf_1 15 rfl rfl)
theorem dX1_leaf_40 : decode cX1_leaf 40 = .ok (.aload_n 0, 1) := dk_42 (dk_at dksX1_leaf_1 16 rfl rfl)
theorem dX1_leaf_41 : decode cX1_leaf 41 = .ok (.getfield 25, 3) := dk_180 0 25 (dk_at dksX1_leaf_1 17 rfl rfl)
theorem dX1_leaf_44 : decode cX1_leaf 44 = .ok (.iload_n 1, 1) := dk_27 (dk_at dksX1_leaf_1 20 rfl rfl)
theorem dX1_leaf_45 : decode cX1_leaf 45 = .ok (.baload, 1) := dk_51 (dk_at dksX1_leaf_1 21 rfl rfl)
theorem dX1_leaf_46 : decode cX1_leaf 46 = .ok (.putfield 67, 3) := dk_181 0 67 (dk_at dksX1_leaf_2 0 rfl rfl)
theorem dX1_leaf_49 : decode cX1_leaf 49 = .ok (.aload_n 3, 1) := dk_45 (dk_at dksX1_leaf_2 3 rfl rfl)
theorem dX1_leaf_50 : decode cX1_leaf 50 = .ok (.iload_n 1, 1) := dk_27 (dk_at dksX1_leaf_2 4 rfl rfl)
theorem dX1_leaf_51 : decode cX1_leaf 51 = .ok (.putfield 70, 3) := dk_181 0 70 (dk_at dksX1_leaf_2 5 rfl rfl)
theorem dX1_leaf_54 : decode cX1_leaf 54 = .ok (.aload_n 3, 1) := dk_45 (dk_at dksX1_leaf_2 8 rfl rfl)
theorem dX1_leaf_55 : decode cX1_leaf 55 = .ok (.bipush (-4), 2) := dk_16 252 (dk_at dksX1_leaf_2 9 rfl rfl)
theorem dX1_leaf_57 : decode cX1_leaf 57 = .ok (.putfield 73, 3) := dk_181 0 73 (dk_at dksX1_leaf_2 11 rfl rfl)
theorem dX1_leaf_60 : decode cX1_leaf 60 = .ok (.aload_n 3, 1) := dk_45 (dk_at dksX1_leaf_2 14 rfl rfl)
theorem dX1_leaf_61 : decode cX1_leaf 61 = .ok (.iconst 1, 1) := dk_4 (dk_at dksX1_leaf_2 15 rfl rfl)
theorem dX1_leaf_62 : decode cX1_leaf 62 = .ok (.putfield 76, 3) := dk_181 0 76 (dk_at dksX1_leaf_2 16 rfl rfl)
theorem dX1_leaf_65 : decode cX1_leaf 65 = .ok (.aload_n 3, 1) := dk_45 (dk_at dksX1_leaf_2 19 rfl rfl)
theorem dX1_leaf_66 : decode cX1_leaf 66 = .ok (.areturn, 1) := dk_176 (dk_at dksX1_leaf_2 20 rfl rfl)
abbrev cX1_part : ByteArray := prog_8_method_11_code
def yX1_part : MethodName := ⟨RX1, "part", "(LDeadlineTree$Node;I)LDeadlineTree$Node;"⟩
def dkwX1_part_0 : List UInt8 := [43, 42, 180, 0, 25, 28, 51, 28, 182, 0, 110, 176]
abbrev dktX1_part_0 : List UInt8 := dkwX1_part_0 ++ []
theorem dksX1_part_0 : cX1_part.data.toList.drop 0 = dktX1_part_0 := by decide +kernel
theorem dX1_part_0 : decode cX1_part 0 = .ok (.aload_n 1, 1) := dk_43 (dk_at dksX1_part_0 0 rfl rfl)
theorem dX1_part_1 : decode cX1_part 1 = .ok (.aload_n 0, 1) := dk_42 (dk_at dksX1_part_0 1 rfl rfl)
theorem dX1_part_2 : decode cX1_part 2 = .ok (.getfield 25, 3) := dk_180 0 25 (dk_at dksX1_part_0 2 rfl rfl)
theorem dX1_part_5 : decode cX1_part 5 = .ok (.iload_n 2, 1) := dk_28 (dk_at dksX1_part_0 5 rfl rfl)
theorem dX1_part_6 : decode cX1_part 6 = .ok (.baload, 1) := dk_51 (dk_at dksX1_part_0 6 rfl rfl)
theorem dX1_part_7 : decode cX1_part 7 = .ok (.iload_n 2, 1) := dk_28 (dk_at dksX1_part_0 7 rfl rfl)
theorem dX1_part_8 : decode cX1_part 8 = .ok (.invokevirtual 110, 3) := dk_182 0 110 (dk_at dksX1_part_0 8 rfl rfl)
theorem dX1_part_11 : decode cX1_part 11 = .ok (.areturn, 1) := dk_176 (dk_at dksX1_part_0 11 rfl rfl)
abbrev cX1_push : ByteArray := prog_8_method_12_code
def yX1_push : MethodName := ⟨RX1, "push", "(LDeadlineTree$Node;I)V"⟩
def dkwX1_push_2 : List UInt8 := [182, 0, 121, 177]
abbrev dktX1_push_2 : List UInt8 := dkwX1_push_2 ++ []
def dkwX1_push_1 : List UInt8 := [182, 0, 114, 153, 0, 13, 43, 180, 0, 73, 62, 43, 28, 181, 0, 73, 42, 42, 43, 29, 182, 0, 118, 29]
abbrev dktX1_push_1 : List UInt8 := dkwX1_push_1 ++ dktX1_push_2
def dkwX1_push_0 : List UInt8 := [43, 180, 0, 73, 16, 252, 160, 0, 9, 43, 28, 181, 0, 73, 177, 28, 62, 42, 28, 43, 180, 0, 73]
abbrev dktX1_push_0 : List UInt8 := dkwX1_push_0 ++ dktX1_push_1
theorem dksX1_push_0 : cX1_push.data.toList.drop 0 = dktX1_push_0 := by decide +kernel
theorem dksX1_push_1 : cX1_push.data.toList.drop 23 = dktX1_push_1 := dk_seg dksX1_push_0 23 rfl rfl
theorem dksX1_push_2 : cX1_push.data.toList.drop 47 = dktX1_push_2 := dk_seg dksX1_push_1 24 rfl rfl
theorem dX1_push_0 : decode cX1_push 0 = .ok (.aload_n 1, 1) := dk_43 (dk_at dksX1_push_0 0 rfl rfl)
theorem dX1_push_1 : decode cX1_push 1 = .ok (.getfield 73, 3) := dk_180 0 73 (dk_at dksX1_push_0 1 rfl rfl)
theorem dX1_push_4 : decode cX1_push 4 = .ok (.bipush (-4), 2) := dk_16 252 (dk_at dksX1_push_0 4 rfl rfl)
theorem dX1_push_6 : decode cX1_push 6 = .ok (.if_icmp .ne 9, 3) := dk_160 0 9 (dk_at dksX1_push_0 6 rfl rfl)
theorem dX1_push_9 : decode cX1_push 9 = .ok (.aload_n 1, 1) := dk_43 (dk_at dksX1_push_0 9 rfl rfl)
theorem dX1_push_10 : decode cX1_push 10 = .ok (.iload_n 2, 1) := dk_28 (dk_at dksX1_push_0 10 rfl rfl)
theorem dX1_push_11 : decode cX1_push 11 = .ok (.putfield 73, 3) := dk_181 0 73 (dk_at dksX1_push_0 11 rfl rfl)
theorem dX1_push_14 : decode cX1_push 14 = .ok (.return_, 1) := dk_177 (dk_at dksX1_push_0 14 rfl rfl)
theorem dX1_push_15 : decode cX1_push 15 = .ok (.iload_n 2, 1) := dk_28 (dk_at dksX1_push_0 15 rfl rfl)
theorem dX1_push_16 : decode cX1_push 16 = .ok (.istore_n 3, 1) := dk_62 (dk_at dksX1_push_0 16 rfl rfl)
theorem dX1_push_17 : decode cX1_push 17 = .ok (.aload_n 0, 1) := dk_42 (dk_at dksX1_push_0 17 rfl rfl)
theorem dX1_push_18 : decode cX1_push 18 = .ok (.iload_n 2, 1) := dk_28 (dk_at dksX1_push_0 18 rfl rfl)
theorem dX1_push_19 : decode cX1_push 19 = .ok (.aload_n 1, 1) := dk_43 (dk_at dksX1_push_0 19 rfl rfl)
theorem dX1_push_20 : decode cX1_push 20 = .ok (.getfield 73, 3) := dk_180 0 73 (dk_at dksX1_push_0 20 rfl rfl)
theorem dX1_push_23 : decode cX1_push 23 = .ok (.invokevirtual 114, 3) := dk_182 0 114 (dk_at dksX1_push_1 0 rfl rfl)
theorem dX1_push_26 : decode cX1_push 26 = .ok (.ifCond .eq 13, 3) := dk_153 0 13 (dk_at dksX1_push_1 3 rfl rfl)
theorem dX1_push_29 : decode cX1_push 29 = .ok (.aload_n 1, 1) := dk_43 (dk_at dksX1_push_1 6 rfl rfl)
theorem dX1_push_30 : decode cX1_push 30 = .ok (.getfield 73, 3) := dk_180 0 73 (dk_at dksX1_push_1 7 rfl rfl)
theorem dX1_push_33 : decode cX1_push 33 = .ok (.istore_n 3, 1) := dk_62 (dk_at dksX1_push_1 10 rfl rfl)
theorem dX1_push_34 : decode cX1_push 34 = .ok (.aload_n 1, 1) := dk_43 (dk_at dksX1_push_1 11 rfl rfl)
theorem dX1_push_35 : decode cX1_push 35 = .ok (.iload_n 2, 1) := dk_28 (dk_at dksX1_push_1 12 rfl rfl)
theorem dX1_push_36 : decode cX1_push 36 = .ok (.putfield 73, 3) := dk_181 0 73 (dk_at dksX1_push_1 13 rfl rfl)
theorem dX1_push_39 : decode cX1_push 39 = .ok (.aload_n 0, 1) := dk_42 (dk_at dksX1_push_1 16 rfl rfl)
theorem dX1_push_40 : decode cX1_push 40 = .ok (.aload_n 0, 1) := dk_42 (dk_at dksX1_push_1 17 rfl rfl)
theorem dX1_push_41 : decode cX1_push 41 = .ok (.aload_n 1, 1) := dk_43 (dk_at dksX1_push_1 18 rfl rfl)
theorem dX1_push_42 : decode cX1_push 42 = .ok (.iload_n 3, 1) := dk_29 (dk_at dksX1_push_1 19 rfl rfl)
theorem dX1_push_43 : decode cX1_push 43 = .ok (.invokevirtual 118, 3) := dk_182 0 118 (dk_at dksX1_push_1 20 rfl rfl)
theorem dX1_push_46 : decode cX1_push 46 = .ok (.iload_n 3, 1) := dk_29 (dk_at dksX1_push_1 23 rfl rfl)
theorem dX1_push_47 : decode cX1_push 47 = .ok (.invokevirtual 121, 3) := dk_182 0 121 (dk_at dksX1_push_2 0 rfl rfl)
theorem dX1_push_50 : decode cX1_push 50 = .ok (.return_, 1) := dk_177 (dk_at dksX1_push_2 3 rfl rfl)
abbrev cX1_isDueAhead : ByteArray := prog_8_method_8_code
def yX1_isDueAhead : MethodName := ⟨RX1, "isDueAhead", "(II)Z"⟩
def dkwX1_isDueAhead_1 : List UInt8 := [182, 0, 104, 28, 185, 0, 106, 5, 0, 172]
abbrev dktX1_isDueAhead_1 : List UInt8 := dkwX1_isDueAhead_1 ++ []
def dkwX1_isDueAhead_0 : List UInt8 := [42, 180, 0, 3, 180, 0, 94, 42, 180, 0, 21, 27, 51, 50, 42, 27, 182, 0, 104, 27, 42, 28]
abbrev dktX1_isDueAhead_0 : List UInt8 := dkwX1_isDueAhead_0 ++ dktX1_isDueAhead_1
theorem dksX1_isDueAhead_0 : cX1_isDueAhead.data.toList.drop 0 = dktX1_isDueAhead_0 := by decide +kernel
theorem dksX1_isDueAhead_1 : cX1_isDueAhead.data.toList.drop 22 = dktX1_isDueAhead_1 := dk_seg dksX1_isDueAhead_0 22 rfl rfl
theorem dX1_isDueAhead_0 : decode cX1_isDueAhead 0 = .ok (.aload_n 0, 1) := dk_42 (dk_at dksX1_isDueAhead_0 0 rfl rfl)
theorem dX1_isDueAhead_1 : decode cX1_isDueAhead 1 = .ok (.getfield 3, 3) := dk_180 0 3 (dk_at dksX1_isDueAhead_0 1 rfl rfl)
theorem dX1_isDueAhead_4 : decode cX1_isDueAhead 4 = .ok (.getfield 94, 3) := dk_180 0 94 (dk_at dksX1_isDueAhead_0 4 rfl rfl)
theorem dX1_isDueAhead_7 : decode cX1_isDueAhead 7 = .ok (.aload_n 0, 1) := dk_42 (dk_at dksX1_isDueAhead_0 7 rfl rfl)
theorem dX1_isDueAhead_8 : decode cX1_isDueAhead 8 = .ok (.getfield 21, 3) := dk_180 0 21 (dk_at dksX1_isDueAhead_0 8 rfl rfl)
theorem dX1_isDueAhead_11 : decode cX1_isDueAhead 11 = .ok (.iload_n 1, 1) := dk_27 (dk_at dksX1_isDueAhead_0 11 rfl rfl)
theorem dX1_isDueAhead_12 : decode cX1_isDueAhead 12 = .ok (.baload, 1) := dk_51 (dk_at dksX1_isDueAhead_0 12 rfl rfl)
theorem dX1_isDueAhead_13 : decode cX1_isDueAhead 13 = .ok (.aaload, 1) := dk_50 (dk_at dksX1_isDueAhead_0 13 rfl rfl)
theorem dX1_isDueAhead_14 : decode cX1_isDueAhead 14 = .ok (.aload_n 0, 1) := dk_42 (dk_at dksX1_isDueAhead_0 14 rfl rfl)
theorem dX1_isDueAhead_15 : decode cX1_isDueAhead 15 = .ok (.iload_n 1, 1) := dk_27 (dk_at dksX1_isDueAhead_0 15 rfl rfl)
theorem dX1_isDueAhead_16 : decode cX1_isDueAhead 16 = .ok (.invokevirtual 104, 3) := dk_182 0 104 (dk_at dksX1_isDueAhead_0 16 rfl rfl)
theorem dX1_isDueAhead_19 : decode cX1_isDueAhead 19 = .ok (.iload_n 1, 1) := dk_27 (dk_at dksX1_isDueAhead_0 19 rfl rfl)
theorem dX1_isDueAhead_20 : decode cX1_isDueAhead 20 = .ok (.aload_n 0, 1) := dk_42 (dk_at dksX1_isDueAhead_0 20 rfl rfl)
theorem dX1_isDueAhead_21 : decode cX1_isDueAhead 21 = .ok (.iload_n 2, 1) := dk_28 (dk_at dksX1_isDueAhead_0 21 rfl rfl)
theorem dX1_isDueAhead_22 : decode cX1_isDueAhead 22 = .ok (.invokevirtual 104, 3) := dk_182 0 104 (dk_at dksX1_isDueAhead_1 0 rfl rfl)
theorem dX1_isDueAhead_25 : decode cX1_isDueAhead 25 = .ok (.iload_n 2, 1) := dk_28 (dk_at dksX1_isDueAhead_1 3 rfl rfl)
theorem dX1_isDueAhead_26 : decode cX1_isDueAhead 26 = .ok (.invokeinterface 106 5, 5) := by decide +kernel
theorem dX1_isDueAhead_31 : decode cX1_isDueAhead 31 = .ok (.ireturn, 1) := dk_172 (dk_at dksX1_isDueAhead_1 9 rfl rfl)
abbrev cX1_rank : ByteArray := prog_8_method_7_code
def yX1_rank : MethodName := ⟨RX1, "rank", "(I)I"⟩
def dkwX1_rank_1 : List UInt8 := [27, 51, 185, 0, 98, 3, 0, 172]
abbrev dktX1_rank_1 : List UInt8 := dkwX1_rank_1 ++ []
def dkwX1_rank_0 : List UInt8 := [42, 180, 0, 3, 180, 0, 94, 42, 180, 0, 21, 27, 51, 50, 42, 180, 0, 28, 27, 51, 42, 180, 0, 31]
abbrev dktX1_rank_0 : List UInt8 := dkwX1_rank_0 ++ dktX1_rank_1
theorem dksX1_rank_0 : cX1_rank.data.toList.drop 0 = dktX1_rank_0 := by decide +kernel
theorem dksX1_rank_1 : cX1_rank.data.toList.drop 24 = dktX1_rank_1 := dk_seg dksX1_rank_0 24 rfl rfl
theorem dX1_rank_0 : decode cX1_rank 0 = .ok (.aload_n 0, 1) := dk_42 (dk_at dksX1_rank_0 0 rfl rfl)
theorem dX1_rank_1 : decode cX1_rank 1 = .ok (.getfield 3, 3) := dk_180 0 3 (dk_at dksX1_rank_0 1 rfl rfl)
theorem dX1_rank_4 : decode cX1_rank 4 = .ok (.getfield 94, 3) := dk_180 0 94 (dk_at dksX1_rank_0 4 rfl rfl)
theorem dX1_rank_7 : decode cX1_rank 7 = .ok (.aload_n 0, 1) := dk_42 (dk_at dksX1_rank_0 7 rfl rfl)
theorem dX1_rank_8 : decode cX1_rank 8 = .ok (.getfield 21, 3) := dk_180 0 21 (dk_at dksX1_rank_0 8 rfl rfl)
theorem dX1_rank_11 : decode cX1_rank 11 = .ok (.iload_n 1, 1) := dk_27 (dk_at dksX1_rank_0 11 rfl rfl)
theorem dX1_rank_12 : decode cX1_rank 12 = .ok (.baload, 1) := dk_51 (dk_at dksX1_rank_0 12 rfl rfl)
theorem dX1_rank_13 : decode cX1_rank 13 = .ok (.aaload, 1) := dk_50 (dk_at dksX1_rank_0 13 rfl rfl)
theorem dX1_rank_14 : decode cX1_rank 14 = .ok (.aload_n 0, 1) := dk_42 (dk_at dksX1_rank_0 14 rfl rfl)
theorem dX1_rank_15 : decode cX1_rank 15 = .ok (.getfield 28, 3) := dk_180 0 28 (dk_at dksX1_rank_0 15 rfl rfl)
theorem dX1_rank_18 : decode cX1_rank 18 = .ok (.iload_n 1, 1) := dk_27 (dk_at dksX1_rank_0 18 rfl rfl)
theorem dX1_rank_19 : decode cX1_rank 19 = .ok (.baload, 1) := dk_51 (dk_at dksX1_rank_0 19 rfl rfl)
theorem dX1_rank_20 : decode cX1_rank 20 = .ok (.aload_n 0, 1) := dk_42 (dk_at dksX1_rank_0 20 rfl rfl)
theorem dX1_rank_21 : decode cX1_rank 21 = .ok (.getfield 31, 3) := dk_180 0 31 (dk_at dksX1_rank_0 21 rfl rfl)
theorem dX1_rank_24 : decode cX1_rank 24 = .ok (.iload_n 1, 1) := dk_27 (dk_at dksX1_rank_1 0 rfl rfl)
theorem dX1_rank_25 : decode cX1_rank 25 = .ok (.baload, 1) := dk_51 (dk_at dksX1_rank_1 1 rfl rfl)
theorem dX1_rank_26 : decode cX1_rank 26 = .ok (.invokeinterface 98 3, 5) := by decide +kernel
theorem dX1_rank_31 : decode cX1_rank 31 = .ok (.ireturn, 1) := dk_172 (dk_at dksX1_rank_1 7 rfl rfl)
abbrev cX1_level : ByteArray := prog_8_method_19_code
def yX1_level : MethodName := ⟨RX1, "level", "(II)I"⟩
def dkwX1_level_2 : List UInt8 := [172, 42, 45, 25, 4, 42, 25, 4, 182, 0, 162, 182, 0, 165, 4, 172]
abbrev dktX1_level_2 : List UInt8 := dkwX1_level_2 ++ []
def dkwX1_level_1 : List UInt8 := [25, 4, 78, 25, 4, 27, 28, 182, 0, 110, 58, 4, 167, 255, 228, 25, 4, 182, 0, 140, 153, 0, 5, 3]
abbrev dktX1_level_1 : List UInt8 := dkwX1_level_1 ++ dktX1_level_2
def dkwX1_level_0 : List UInt8 := [1, 78, 42, 180, 0, 53, 58, 4, 25, 4, 182, 0, 140, 154, 0, 26, 25, 4, 182, 0, 159, 154, 0, 18]
abbrev dktX1_level_0 : List UInt8 := dkwX1_level_0 ++ dktX1_level_1
theorem dksX1_level_0 : cX1_level.data.toList.drop 0 = dktX1_level_0 := by decide +kernel
theorem dksX1_level_1 : cX1_level.data.toList.drop 24 = dktX1_level_1 := dk_seg dksX1_level_0 24 rfl rfl
theorem dksX1_level_2 : cX1_level.data.toList.drop 48 = dktX1_level_2 := dk_seg dksX1_level_1 24 rfl rfl
theorem dX1_level_0 : decode cX1_level 0 = .ok (.aconst_null, 1) := dk_1 (dk_at dksX1_level_0 0 rfl rfl)
theorem dX1_level_1 : decode cX1_level 1 = .ok (.astore_n 3, 1) := dk_78 (dk_at dksX1_level_0 1 rfl rfl)
theorem dX1_level_2 : decode cX1_level 2 = .ok (.aload_n 0, 1) := dk_42 (dk_at dksX1_level_0 2 rfl rfl)
theorem dX1_level_3 : decode cX1_level 3 = .ok (.getfield 53, 3) := dk_180 0 53 (dk_at dksX1_level_0 3 rfl rfl)
theorem dX1_level_6 : decode cX1_level 6 = .ok (.astore 4, 2) := dk_58 4 (dk_at dksX1_level_0 6 rfl rfl)
theorem dX1_level_8 : decode cX1_level 8 = .ok (.aload 4, 2) := dk_25 4 (dk_at dksX1_level_0 8 rfl rfl)
theorem dX1_level_10 : decode cX1_level 10 = .ok (.invokevirtual 140, 3) := dk_182 0 140 (dk_at dksX1_level_0 10 rfl rfl)
theorem dX1_level_13 : decode cX1_level 13 = .ok (.ifCond .ne 26, 3) := dk_154 0 26 (dk_at dksX1_level_0 13 rfl rfl)
theorem dX1_level_16 : decode cX1_level 16 = .ok (.aload 4, 2) := dk_25 4 (dk_at dksX1_level_0 16 rfl rfl)
theorem dX1_level_18 : decode cX1_level 18 = .ok (.invokevirtual 159, 3) := dk_182 0 159 (dk_at dksX1_level_0 18 rfl rfl)
theorem dX1_level_21 : decode cX1_level 21 = .ok (.ifCond .ne 18, 3) := dk_154 0 18 (dk_at dksX1_level_0 21 rfl rfl)
theorem dX1_level_24 : decode cX1_level 24 = .ok (.aload 4, 2) := dk_25 4 (dk_at dksX1_level_1 0 rfl rfl)
theorem dX1_level_26 : decode cX1_level 26 = .ok (.astore_n 3, 1) := dk_78 (dk_at dksX1_level_1 2 rfl rfl)
theorem dX1_level_27 : decode cX1_level 27 = .ok (.aload 4, 2) := dk_25 4 (dk_at dksX1_level_1 3 rfl rfl)
theorem dX1_level_29 : decode cX1_level 29 = .ok (.iload_n 1, 1) := dk_27 (dk_at dksX1_level_1 5 rfl rfl)
theorem dX1_level_30 : decode cX1_level 30 = .ok (.iload_n 2, 1) := dk_28 (dk_at dksX1_level_1 6 rfl rfl)
theorem dX1_level_31 : decode cX1_level 31 = .ok (.invokevirtual 110, 3) := dk_182 0 110 (dk_at dksX1_level_1 7 rfl rfl)
theorem dX1_level_34 : decode cX1_level 34 = .ok (.astore 4, 2) := dk_58 4 (dk_at dksX1_level_1 10 rfl rfl)
theorem dX1_level_36 : decode cX1_level 36 = .ok (.goto (-28), 3) := dk_167 255 228 (dk_at dksX1_level_1 12 rfl rfl)
theorem dX1_level_39 : decode cX1_level 39 = .ok (.aload 4, 2) := dk_25 4 (dk_at dksX1_level_1 15 rfl rfl)
theorem dX1_level_41 : decode cX1_level 41 = .ok (.invokevirtual 140, 3) := dk_182 0 140 (dk_at dksX1_level_1 17 rfl rfl)
theorem dX1_level_44 : decode cX1_level 44 = .ok (.ifCond .eq 5, 3) := dk_153 0 5 (dk_at dksX1_level_1 20 rfl rfl)
theorem dX1_level_47 : decode cX1_level 47 = .ok (.iconst 0, 1) := dk_3 (dk_at dksX1_level_1 23 rfl rfl)
theorem dX1_level_48 : decode cX1_level 48 = .ok (.ireturn, 1) := dk_172 (dk_at dksX1_level_2 0 rfl rfl)
theorem dX1_level_49 : decode cX1_level 49 = .ok (.aload_n 0, 1) := dk_42 (dk_at dksX1_level_2 1 rfl rfl)
theorem dX1_level_50 : decode cX1_level 50 = .ok (.aload_n 3, 1) := dk_45 (dk_at dksX1_level_2 2 rfl rfl)
theorem dX1_level_51 : decode cX1_level 51 = .ok (.aload 4, 2) := dk_25 4 (dk_at dksX1_level_2 3 rfl rfl)
theorem dX1_level_53 : decode cX1_level 53 = .ok (.aload_n 0, 1) := dk_42 (dk_at dksX1_level_2 5 rfl rfl)
theorem dX1_level_54 : decode cX1_level 54 = .ok (.aload 4, 2) := dk_25 4 (dk_at dksX1_level_2 6 rfl rfl)
theorem dX1_level_56 : decode cX1_level 56 = .ok (.invokevirtual 162, 3) := dk_182 0 162 (dk_at dksX1_level_2 8 rfl rfl)
theorem dX1_level_59 : decode cX1_level 59 = .ok (.invokevirtual 165, 3) := dk_182 0 165 (dk_at dksX1_level_2 11 rfl rfl)
theorem dX1_level_62 : decode cX1_level 62 = .ok (.iconst 1, 1) := dk_4 (dk_at dksX1_level_2 14 rfl rfl)
theorem dX1_level_63 : decode cX1_level 63 = .ok (.ireturn, 1) := dk_172 (dk_at dksX1_level_2 15 rfl rfl)
abbrev cX1_levelled : ByteArray := prog_8_method_18_code
def yX1_levelled : MethodName := ⟨RX1, "levelled", "(LDeadlineTree$Node;)LDeadlineTree$Node;"⟩
def dkwX1_levelled_2 : List UInt8 := [132, 3, 1, 167, 255, 234, 44, 176]
abbrev dktX1_levelled_2 : List UInt8 := dkwX1_levelled_2 ++ []
def dkwX1_levelled_1 : List UInt8 := [77, 3, 62, 29, 42, 180, 0, 137, 162, 0, 20, 42, 44, 42, 180, 0, 37, 29, 51, 182, 0, 121]
abbrev dktX1_levelled_1 : List UInt8 := dkwX1_levelled_1 ++ dktX1_levelled_2
def dkwX1_levelled_0 : List UInt8 := [42, 3, 181, 0, 144, 42, 3, 181, 0, 137, 42, 43, 182, 0, 147, 42, 3, 42, 180, 0, 144, 182, 0, 156]
abbrev dktX1_levelled_0 : List UInt8 := dkwX1_levelled_0 ++ dktX1_levelled_1
theorem dksX1_levelled_0 : cX1_levelled.data.toList.drop 0 = dktX1_levelled_0 := by decide +kernel
theorem dksX1_levelled_1 : cX1_levelled.data.toList.drop 24 = dktX1_levelled_1 := dk_seg dksX1_levelled_0 24 rfl rfl
theorem dksX1_levelled_2 : cX1_levelled.data.toList.drop 46 = dktX1_levelled_2 := dk_seg dksX1_levelled_1 22 rfl rfl
theorem dX1_levelled_0 : decode cX1_levelled 0 = .ok (.aload_n 0, 1) := dk_42 (dk_at dksX1_levelled_0 0 rfl rfl)
theorem dX1_levelled_1 : decode cX1_levelled 1 = .ok (.iconst 0, 1) := dk_3 (dk_at dksX1_levelled_0 1 rfl rfl)
theorem dX1_levelled_2 : decode cX1_levelled 2 = .ok (.putfield 144, 3) := dk_181 0 144 (dk_at dksX1_levelled_0 2 rfl rfl)
theorem dX1_levelled_5 : decode cX1_levelled 5 = .ok (.aload_n 0, 1) := dk_42 (dk_at dksX1_levelled_0 5 rfl rfl)
theorem dX1_levelled_6 : decode cX1_levelled 6 = .ok (.iconst 0, 1) := dk_3 (dk_at dksX1_levelled_0 6 rfl rfl)
theorem dX1_levelled_7 : decode cX1_levelled 7 = .ok (.putfield 137, 3) := dk_181 0 137 (dk_at dksX1_levelled_0 7 rfl rfl)
theorem dX1_levelled_10 : decode cX1_levelled 10 = .ok (.aload_n 0, 1) := dk_42 (dk_at dksX1_levelled_0 10 rfl rfl)
theorem dX1_levelled_11 : decode cX1_levelled 11 = .ok (.aload_n 1, 1) := dk_43 (dk_at dksX1_levelled_0 11 rfl rfl)
theorem dX1_levelled_12 : decode cX1_levelled 12 = .ok (.invokevirtual 147, 3) := dk_182 0 147 (dk_at dksX1_levelled_0 12 rfl rfl)
theorem dX1_levelled_15 : decode cX1_levelled 15 = .ok (.aload_n 0, 1) := dk_42 (dk_at dksX1_levelled_0 15 rfl rfl)
theorem dX1_levelled_16 : decode cX1_levelled 16 = .ok (.iconst 0, 1) := dk_3 (dk_at dksX1_levelled_0 16 rfl rfl)
theorem dX1_levelled_17 : decode cX1_levelled 17 = .ok (.aload_n 0, 1) := dk_42 (dk_at dksX1_levelled_0 17 rfl rfl)
theorem dX1_levelled_18 : decode cX1_levelled 18 = .ok (.getfield 144, 3) := dk_180 0 144 (dk_at dksX1_levelled_0 18 rfl rfl)
theorem dX1_levelled_21 : decode cX1_levelled 21 = .ok (.invokevirtual 156, 3) := dk_182 0 156 (dk_at dksX1_levelled_0 21 rfl rfl)
theorem dX1_levelled_24 : decode cX1_levelled 24 = .ok (.astore_n 2, 1) := dk_77 (dk_at dksX1_levelled_1 0 rfl rfl)
theorem dX1_levelled_25 : decode cX1_levelled 25 = .ok (.iconst 0, 1) := dk_3 (dk_at dksX1_levelled_1 1 rfl rfl)
theorem dX1_levelled_26 : decode cX1_levelled 26 = .ok (.istore_n 3, 1) := dk_62 (dk_at dksX1_levelled_1 2 rfl rfl)
theorem dX1_levelled_27 : decode cX1_levelled 27 = .ok (.iload_n 3, 1) := dk_29 (dk_at dksX1_levelled_1 3 rfl rfl)
theorem dX1_levelled_28 : decode cX1_levelled 28 = .ok (.aload_n 0, 1) := dk_42 (dk_at dksX1_levelled_1 4 rfl rfl)
theorem dX1_levelled_29 : decode cX1_levelled 29 = .ok (.getfield 137, 3) := dk_180 0 137 (dk_at dksX1_levelled_1 5 rfl rfl)
theorem dX1_levelled_32 : decode cX1_levelled 32 = .ok (.if_icmp .ge 20, 3) := dk_162 0 20 (dk_at dksX1_levelled_1 8 rfl rfl)
theorem dX1_levelled_35 : decode cX1_levelled 35 = .ok (.aload_n 0, 1) := dk_42 (dk_at dksX1_levelled_1 11 rfl rfl)
theorem dX1_levelled_36 : decode cX1_levelled 36 = .ok (.aload_n 2, 1) := dk_44 (dk_at dksX1_levelled_1 12 rfl rfl)
theorem dX1_levelled_37 : decode cX1_levelled 37 = .ok (.aload_n 0, 1) := dk_42 (dk_at dksX1_levelled_1 13 rfl rfl)
theorem dX1_levelled_38 : decode cX1_levelled 38 = .ok (.getfield 37, 3) := dk_180 0 37 (dk_at dksX1_levelled_1 14 rfl rfl)
theorem dX1_levelled_41 : decode cX1_levelled 41 = .ok (.iload_n 3, 1) := dk_29 (dk_at dksX1_levelled_1 17 rfl rfl)
theorem dX1_levelled_42 : decode cX1_levelled 42 = .ok (.baload, 1) := dk_51 (dk_at dksX1_levelled_1 18 rfl rfl)
theorem dX1_levelled_43 : decode cX1_levelled 43 = .ok (.invokevirtual 121, 3) := dk_182 0 121 (dk_at dksX1_levelled_1 19 rfl rfl)
theorem dX1_levelled_46 : decode cX1_levelled 46 = .ok (.iinc 3 1, 3) := dk_132 3 1 (dk_at dksX1_levelled_2 0 rfl rfl)
theorem dX1_levelled_49 : decode cX1_levelled 49 = .ok (.goto (-22), 3) := dk_167 255 234 (dk_at dksX1_levelled_2 3 rfl rfl)
theorem dX1_levelled_52 : decode cX1_levelled 52 = .ok (.aload_n 2, 1) := dk_44 (dk_at dksX1_levelled_2 6 rfl rfl)
theorem dX1_levelled_53 : decode cX1_levelled 53 = .ok (.areturn, 1) := dk_176 (dk_at dksX1_levelled_2 7 rfl rfl)
abbrev cX1_gather : ByteArray := prog_8_method_16_code
def yX1_gather : MethodName := ⟨RX1, "gather", "(LDeadlineTree$Node;)V"⟩
def dkwX1_gather_3 : List UInt8 := [182, 0, 147, 42, 43, 180, 0, 64, 182, 0, 147, 42, 43, 182, 0, 150, 177]
abbrev dktX1_gather_3 : List UInt8 := dkwX1_gather_3 ++ []
def dkwX1_gather_2 : List UInt8 := [43, 180, 0, 70, 145, 84, 42, 89, 180, 0, 144, 4, 96, 181, 0, 144, 167, 0, 19, 42, 43, 180, 0, 61]
abbrev dktX1_gather_2 : List UInt8 := dkwX1_gather_2 ++ dktX1_gather_3
def dkwX1_gather_1 : List UInt8 := [89, 180, 0, 137, 4, 96, 181, 0, 137, 43, 182, 0, 140, 153, 0, 30, 42, 180, 0, 34, 42, 180, 0, 144]
abbrev dktX1_gather_1 : List UInt8 := dkwX1_gather_1 ++ dktX1_gather_2
def dkwX1_gather_0 : List UInt8 := [43, 180, 0, 73, 16, 252, 159, 0, 27, 42, 180, 0, 37, 42, 180, 0, 137, 43, 180, 0, 73, 145, 84, 42]
abbrev dktX1_gather_0 : List UInt8 := dkwX1_gather_0 ++ dktX1_gather_1
theorem dksX1_gather_0 : cX1_gather.data.toList.drop 0 = dktX1_gather_0 := by decide +kernel
theorem dksX1_gather_1 : cX1_gather.data.toList.drop 24 = dktX1_gather_1 := dk_seg dksX1_gather_0 24 rfl rfl
theorem dksX1_gather_2 : cX1_gather.data.toList.drop 48 = dktX1_gather_2 := dk_seg dksX1_gather_1 24 rfl rfl
theorem dksX1_gather_3 : cX1_gather.data.toList.drop 72 = dktX1_gather_3 := dk_seg dksX1_gather_2 24 rfl rfl
theorem dX1_gather_0 : decode cX1_gather 0 = .ok (.aload_n 1, 1) := dk_43 (dk_at dksX1_gather_0 0 rfl rfl)
theorem dX1_gather_1 : decode cX1_gather 1 = .ok (.getfield 73, 3) := dk_180 0 73 (dk_at dksX1_gather_0 1 rfl rfl)
theorem dX1_gather_4 : decode cX1_gather 4 = .ok (.bipush (-4), 2) := dk_16 252 (dk_at dksX1_gather_0 4 rfl rfl)
theorem dX1_gather_6 : decode cX1_gather 6 = .ok (.if_icmp .eq 27, 3) := dk_159 0 27 (dk_at dksX1_gather_0 6 rfl rfl)
theorem dX1_gather_9 : decode cX1_gather 9 = .ok (.aload_n 0, 1) := dk_42 (dk_at dksX1_gather_0 9 rfl rfl)
theorem dX1_gather_10 : decode cX1_gather 10 = .ok (.getfield 37, 3) := dk_180 0 37 (dk_at dksX1_gather_0 10 rfl rfl)
theorem dX1_gather_13 : decode cX1_gather 13 = .ok (.aload_n 0, 1) := dk_42 (dk_at dksX1_gather_0 13 rfl rfl)
theorem dX1_gather_14 : decode cX1_gather 14 = .ok (.getfield 137, 3) := dk_180 0 137 (dk_at dksX1_gather_0 14 rfl rfl)
theorem dX1_gather_17 : decode cX1_gather 17 = .ok (.aload_n 1, 1) := dk_43 (dk_at dksX1_gather_0 17 rfl rfl)
theorem dX1_gather_18 : decode cX1_gather 18 = .ok (.getfield 73, 3) := dk_180 0 73 (dk_at dksX1_gather_0 18 rfl rfl)
theorem dX1_gather_21 : decode cX1_gather 21 = .ok (.i2b, 1) := dk_145 (dk_at dksX1_gather_0 21 rfl rfl)
theorem dX1_gather_22 : decode cX1_gather 22 = .ok (.bastore, 1) := dk_84 (dk_at dksX1_gather_0 22 rfl rfl)
theorem dX1_gather_23 : decode cX1_gather 23 = .ok (.aload_n 0, 1) := dk_42 (dk_at dksX1_gather_0 23 rfl rfl)
theorem dX1_gather_24 : decode cX1_gather 24 = .ok (.dup, 1) := dk_89 (dk_at dksX1_gather_1 0 rfl rfl)
theorem dX1_gather_25 : decode cX1_gather 25 = .ok (.getfield 137, 3) := dk_180 0 137 (dk_at dksX1_gather_1 1 rfl rfl)
theorem dX1_gather_28 : decode cX1_gather 28 = .ok (.iconst 1, 1) := dk_4 (dk_at dksX1_gather_1 4 rfl rfl)
theorem dX1_gather_29 : decode cX1_gather 29 = .ok (.iadd, 1) := dk_96 (dk_at dksX1_gather_1 5 rfl rfl)
theorem dX1_gather_30 : decode cX1_gather 30 = .ok (.putfield 137, 3) := dk_181 0 137 (dk_at dksX1_gather_1 6 rfl rfl)
theorem dX1_gather_33 : decode cX1_gather 33 = .ok (.aload_n 1, 1) := dk_43 (dk_at dksX1_gather_1 9 rfl rfl)
theorem dX1_gather_34 : decode cX1_gather 34 = .ok (.invokevirtual 140, 3) := dk_182 0 140 (dk_at dksX1_gather_1 10 rfl rfl)
theorem dX1_gather_37 : decode cX1_gather 37 = .ok (.ifCond .eq 30, 3) := dk_153 0 30 (dk_at dksX1_gather_1 13 rfl rfl)
theorem dX1_gather_40 : decode cX1_gather 40 = .ok (.aload_n 0, 1) := dk_42 (dk_at dksX1_gather_1 16 rfl rfl)
theorem dX1_gather_41 : decode cX1_gather 41 = .ok (.getfield 34, 3) := dk_180 0 34 (dk_at dksX1_gather_1 17 rfl rfl)
theorem dX1_gather_44 : decode cX1_gather 44 = .ok (.aload_n 0, 1) := dk_42 (dk_at dksX1_gather_1 20 rfl rfl)
theorem dX1_gather_45 : decode cX1_gather 45 = .ok (.getfield 144, 3) := dk_180 0 144 (dk_at dksX1_gather_1 21 rfl rfl)
theorem dX1_gather_48 : decode cX1_gather 48 = .ok (.aload_n 1, 1) := dk_43 (dk_at dksX1_gather_2 0 rfl rfl)
theorem dX1_gather_49 : decode cX1_gather 49 = .ok (.getfield 70, 3) := dk_180 0 70 (dk_at dksX1_gather_2 1 rfl rfl)
theorem dX1_gather_52 : decode cX1_gather 52 = .ok (.i2b, 1) := dk_145 (dk_at dksX1_gather_2 4 rfl rfl)
theorem dX1_gather_53 : decode cX1_gather 53 = .ok (.bastore, 1) := dk_84 (dk_at dksX1_gather_2 5 rfl rfl)
theorem dX1_gather_54 : decode cX1_gather 54 = .ok (.aload_n 0, 1) := dk_42 (dk_at dksX1_gather_2 6 rfl rfl)
theorem dX1_gather_55 : decode cX1_gather 55 = .ok (.dup, 1) := dk_89 (dk_at dksX1_gather_2 7 rfl rfl)
theorem dX1_gather_56 : decode cX1_gather 56 = .ok (.getfield 144, 3) := dk_180 0 144 (dk_at dksX1_gather_2 8 rfl rfl)
theorem dX1_gather_59 : decode cX1_gather 59 = .ok (.iconst 1, 1) := dk_4 (dk_at dksX1_gather_2 11 rfl rfl)
theorem dX1_gather_60 : decode cX1_gather 60 = .ok (.iadd, 1) := dk_96 (dk_at dksX1_gather_2 12 rfl rfl)
theorem dX1_gather_61 : decode cX1_gather 61 = .ok (.putfield 144, 3) := dk_181 0 144 (dk_at dksX1_gather_2 13 rfl rfl)
theorem dX1_gather_64 : decode cX1_gather 64 = .ok (.goto 19, 3) := dk_167 0 19 (dk_at dksX1_gather_2 16 rfl rfl)
theorem dX1_gather_67 : decode cX1_gather 67 = .ok (.aload_n 0, 1) := dk_42 (dk_at dksX1_gather_2 19 rfl rfl)
theorem dX1_gather_68 : decode cX1_gather 68 = .ok (.aload_n 1, 1) := dk_43 (dk_at dksX1_gather_2 20 rfl rfl)
theorem dX1_gather_69 : decode cX1_gather 69 = .ok (.getfield 61, 3) := dk_180 0 61 (dk_at dksX1_gather_2 21 rfl rfl)
theorem dX1_gather_72 : decode cX1_gather 72 = .ok (.invokevirtual 147, 3) := dk_182 0 147 (dk_at dksX1_gather_3 0 rfl rfl)
theorem dX1_gather_75 : decode cX1_gather 75 = .ok (.aload_n 0, 1) := dk_42 (dk_at dksX1_gather_3 3 rfl rfl)
theorem dX1_gather_76 : decode cX1_gather 76 = .ok (.aload_n 1, 1) := dk_43 (dk_at dksX1_gather_3 4 rfl rfl)
theorem dX1_gather_77 : decode cX1_gather 77 = .ok (.getfield 64, 3) := dk_180 0 64 (dk_at dksX1_gather_3 5 rfl rfl)
theorem dX1_gather_80 : decode cX1_gather 80 = .ok (.invokevirtual 147, 3) := dk_182 0 147 (dk_at dksX1_gather_3 8 rfl rfl)
theorem dX1_gather_83 : decode cX1_gather 83 = .ok (.aload_n 0, 1) := dk_42 (dk_at dksX1_gather_3 11 rfl rfl)
theorem dX1_gather_84 : decode cX1_gather 84 = .ok (.aload_n 1, 1) := dk_43 (dk_at dksX1_gather_3 12 rfl rfl)
theorem dX1_gather_85 : decode cX1_gather 85 = .ok (.invokevirtual 150, 3) := dk_182 0 150 (dk_at dksX1_gather_3 13 rfl rfl)
theorem dX1_gather_88 : decode cX1_gather 88 = .ok (.return_, 1) := dk_177 (dk_at dksX1_gather_3 16 rfl rfl)
abbrev cX1_release : ByteArray := prog_8_method_10_code
def yX1_release : MethodName := ⟨RX1, "release", "(LDeadlineTree$Node;)V"⟩
def dkwX1_release_0 : List UInt8 := [42, 89, 180, 0, 50, 4, 43, 180, 0, 43, 120, 2, 130, 126, 181, 0, 50, 177]
abbrev dktX1_release_0 : List UInt8 := dkwX1_release_0 ++ []
theorem dksX1_release_0 : cX1_release.data.toList.drop 0 = dktX1_release_0 := by decide +kernel
theorem dX1_release_0 : decode cX1_release 0 = .ok (.aload_n 0, 1) := dk_42 (dk_at dksX1_release_0 0 rfl rfl)
theorem dX1_release_1 : decode cX1_release 1 = .ok (.dup, 1) := dk_89 (dk_at dksX1_release_0 1 rfl rfl)
theorem dX1_release_2 : decode cX1_release 2 = .ok (.getfield 50, 3) := dk_180 0 50 (dk_at dksX1_release_0 2 rfl rfl)
theorem dX1_release_5 : decode cX1_release 5 = .ok (.iconst 1, 1) := dk_4 (dk_at dksX1_release_0 5 rfl rfl)
theorem dX1_release_6 : decode cX1_release 6 = .ok (.aload_n 1, 1) := dk_43 (dk_at dksX1_release_0 6 rfl rfl)
theorem dX1_release_7 : decode cX1_release 7 = .ok (.getfield 43, 3) := dk_180 0 43 (dk_at dksX1_release_0 7 rfl rfl)
theorem dX1_release_10 : decode cX1_release 10 = .ok (.ishl, 1) := dk_120 (dk_at dksX1_release_0 10 rfl rfl)
theorem dX1_release_11 : decode cX1_release 11 = .ok (.iconst (-1), 1) := dk_2 (dk_at dksX1_release_0 11 rfl rfl)
theorem dX1_release_12 : decode cX1_release 12 = .ok (.ixor, 1) := dk_130 (dk_at dksX1_release_0 12 rfl rfl)
theorem dX1_release_13 : decode cX1_release 13 = .ok (.iand, 1) := dk_126 (dk_at dksX1_release_0 13 rfl rfl)
theorem dX1_release_14 : decode cX1_release 14 = .ok (.putfield 50, 3) := dk_181 0 50 (dk_at dksX1_release_0 14 rfl rfl)
theorem dX1_release_17 : decode cX1_release 17 = .ok (.return_, 1) := dk_177 (dk_at dksX1_release_0 17 rfl rfl)
abbrev cX1_build : ByteArray := prog_8_method_17_code
def yX1_build : MethodName := ⟨RX1, "build", "(II)LDeadlineTree$Node;"⟩
def dkwX1_build_3 : List UInt8 := [181, 0, 64, 25, 6, 28, 27, 100, 181, 0, 76, 25, 6, 176]
abbrev dktX1_build_3 : List UInt8 := dkwX1_build_3 ++ []
def dkwX1_build_2 : List UInt8 := [180, 0, 34, 29, 4, 100, 51, 182, 0, 153, 58, 6, 25, 6, 25, 4, 181, 0, 61, 25, 6, 25, 5]
abbrev dktX1_build_2 : List UInt8 := dkwX1_build_2 ++ dktX1_build_3
def dkwX1_build_1 : List UInt8 := [5, 108, 96, 62, 42, 27, 29, 182, 0, 156, 58, 4, 42, 29, 28, 182, 0, 156, 58, 5, 42, 42]
abbrev dktX1_build_1 : List UInt8 := dkwX1_build_1 ++ dktX1_build_2
def dkwX1_build_0 : List UInt8 := [28, 27, 100, 4, 160, 0, 14, 42, 42, 180, 0, 34, 27, 51, 182, 0, 153, 176, 27, 28, 27, 100, 4, 96]
abbrev dktX1_build_0 : List UInt8 := dkwX1_build_0 ++ dktX1_build_1
theorem dksX1_build_0 : cX1_build.data.toList.drop 0 = dktX1_build_0 := by decide +kernel
theorem dksX1_build_1 : cX1_build.data.toList.drop 24 = dktX1_build_1 := dk_seg dksX1_build_0 24 rfl rfl
theorem dksX1_build_2 : cX1_build.data.toList.drop 46 = dktX1_build_2 := dk_seg dksX1_build_1 22 rfl rfl
theorem dksX1_build_3 : cX1_build.data.toList.drop 69 = dktX1_build_3 := dk_seg dksX1_build_2 23 rfl rfl
theorem dX1_build_0 : decode cX1_build 0 = .ok (.iload_n 2, 1) := dk_28 (dk_at dksX1_build_0 0 rfl rfl)
theorem dX1_build_1 : decode cX1_build 1 = .ok (.iload_n 1, 1) := dk_27 (dk_at dksX1_build_0 1 rfl rfl)
theorem dX1_build_2 : decode cX1_build 2 = .ok (.isub, 1) := dk_100 (dk_at dksX1_build_0 2 rfl rfl)
theorem dX1_build_3 : decode cX1_build 3 = .ok (.iconst 1, 1) := dk_4 (dk_at dksX1_build_0 3 rfl rfl)
theorem dX1_build_4 : decode cX1_build 4 = .ok (.if_icmp .ne 14, 3) := dk_160 0 14 (dk_at dksX1_build_0 4 rfl rfl)
theorem dX1_build_7 : decode cX1_build 7 = .ok (.aload_n 0, 1) := dk_42 (dk_at dksX1_build_0 7 rfl rfl)
theorem dX1_build_8 : decode cX1_build 8 = .ok (.aload_n 0, 1) := dk_42 (dk_at dksX1_build_0 8 rfl rfl)
theorem dX1_build_9 : decode cX1_build 9 = .ok (.getfield 34, 3) := dk_180 0 34 (dk_at dksX1_build_0 9 rfl rfl)
theorem dX1_build_12 : decode cX1_build 12 = .ok (.iload_n 1, 1) := dk_27 (dk_at dksX1_build_0 12 rfl rfl)
theorem dX1_build_13 : decode cX1_build 13 = .ok (.baload, 1) := dk_51 (dk_at dksX1_build_0 13 rfl rfl)
theorem dX1_build_14 : decode cX1_build 14 = .ok (.invokevirtual 153, 3) := dk_182 0 153 (dk_at dksX1_build_0 14 rfl rfl)
theorem dX1_build_17 : decode cX1_build 17 = .ok (.areturn, 1) := dk_176 (dk_at dksX1_build_0 17 rfl rfl)
theorem dX1_build_18 : decode cX1_build 18 = .ok (.iload_n 1, 1) := dk_27 (dk_at dksX1_build_0 18 rfl rfl)
theorem dX1_build_19 : decode cX1_build 19 = .ok (.iload_n 2, 1) := dk_28 (dk_at dksX1_build_0 19 rfl rfl)
theorem dX1_build_20 : decode cX1_build 20 = .ok (.iload_n 1, 1) := dk_27 (dk_at dksX1_build_0 20 rfl rfl)
theorem dX1_build_21 : decode cX1_build 21 = .ok (.isub, 1) := dk_100 (dk_at dksX1_build_0 21 rfl rfl)
theorem dX1_build_22 : decode cX1_build 22 = .ok (.iconst 1, 1) := dk_4 (dk_at dksX1_build_0 22 rfl rfl)
theorem dX1_build_23 : decode cX1_build 23 = .ok (.iadd, 1) := dk_96 (dk_at dksX1_build_0 23 rfl rfl)
theorem dX1_build_24 : decode cX1_build 24 = .ok (.iconst 2, 1) := dk_5 (dk_at dksX1_build_1 0 rfl rfl)
theorem dX1_build_25 : decode cX1_build 25 = .ok (.idiv, 1) := dk_108 (dk_at dksX1_build_1 1 rfl rfl)
theorem dX1_build_26 : decode cX1_build 26 = .ok (.iadd, 1) := dk_96 (dk_at dksX1_build_1 2 rfl rfl)
theorem dX1_build_27 : decode cX1_build 27 = .ok (.istore_n 3, 1) := dk_62 (dk_at dksX1_build_1 3 rfl rfl)
theorem dX1_build_28 : decode cX1_build 28 = .ok (.aload_n 0, 1) := dk_42 (dk_at dksX1_build_1 4 rfl rfl)
theorem dX1_build_29 : decode cX1_build 29 = .ok (.iload_n 1, 1) := dk_27 (dk_at dksX1_build_1 5 rfl rfl)
theorem dX1_build_30 : decode cX1_build 30 = .ok (.iload_n 3, 1) := dk_29 (dk_at dksX1_build_1 6 rfl rfl)
theorem dX1_build_31 : decode cX1_build 31 = .ok (.invokevirtual 156, 3) := dk_182 0 156 (dk_at dksX1_build_1 7 rfl rfl)
theorem dX1_build_34 : decode cX1_build 34 = .ok (.astore 4, 2) := dk_58 4 (dk_at dksX1_build_1 10 rfl rfl)
theorem dX1_build_36 : decode cX1_build 36 = .ok (.aload_n 0, 1) := dk_42 (dk_at dksX1_build_1 12 rfl rfl)
theorem dX1_build_37 : decode cX1_build 37 = .ok (.iload_n 3, 1) := dk_29 (dk_at dksX1_build_1 13 rfl rfl)
theorem dX1_build_38 : decode cX1_build 38 = .ok (.iload_n 2, 1) := dk_28 (dk_at dksX1_build_1 14 rfl rfl)
theorem dX1_build_39 : decode cX1_build 39 = .ok (.invokevirtual 156, 3) := dk_182 0 156 (dk_at dksX1_build_1 15 rfl rfl)
theorem dX1_build_42 : decode cX1_build 42 = .ok (.astore 5, 2) := dk_58 5 (dk_at dksX1_build_1 18 rfl rfl)
theorem dX1_build_44 : decode cX1_build 44 = .ok (.aload_n 0, 1) := dk_42 (dk_at dksX1_build_1 20 rfl rfl)
theorem dX1_build_45 : decode cX1_build 45 = .ok (.aload_n 0, 1) := dk_42 (dk_at dksX1_build_1 21 rfl rfl)
theorem dX1_build_46 : decode cX1_build 46 = .ok (.getfield 34, 3) := dk_180 0 34 (dk_at dksX1_build_2 0 rfl rfl)
theorem dX1_build_49 : decode cX1_build 49 = .ok (.iload_n 3, 1) := dk_29 (dk_at dksX1_build_2 3 rfl rfl)
theorem dX1_build_50 : decode cX1_build 50 = .ok (.iconst 1, 1) := dk_4 (dk_at dksX1_build_2 4 rfl rfl)
theorem dX1_build_51 : decode cX1_build 51 = .ok (.isub, 1) := dk_100 (dk_at dksX1_build_2 5 rfl rfl)
theorem dX1_build_52 : decode cX1_build 52 = .ok (.baload, 1) := dk_51 (dk_at dksX1_build_2 6 rfl rfl)
theorem dX1_build_53 : decode cX1_build 53 = .ok (.invokevirtual 153, 3) := dk_182 0 153 (dk_at dksX1_build_2 7 rfl rfl)
theorem dX1_build_56 : decode cX1_build 56 = .ok (.astore 6, 2) := dk_58 6 (dk_at dksX1_build_2 10 rfl rfl)
theorem dX1_build_58 : decode cX1_build 58 = .ok (.aload 6, 2) := dk_25 6 (dk_at dksX1_build_2 12 rfl rfl)
theorem dX1_build_60 : decode cX1_build 60 = .ok (.aload 4, 2) := dk_25 4 (dk_at dksX1_build_2 14 rfl rfl)
theorem dX1_build_62 : decode cX1_build 62 = .ok (.putfield 61, 3) := dk_181 0 61 (dk_at dksX1_build_2 16 rfl rfl)
theorem dX1_build_65 : decode cX1_build 65 = .ok (.aload 6, 2) := dk_25 6 (dk_at dksX1_build_2 19 rfl rfl)
theorem dX1_build_67 : decode cX1_build 67 = .ok (.aload 5, 2) := dk_25 5 (dk_at dksX1_build_2 21 rfl rfl)
theorem dX1_build_69 : decode cX1_build 69 = .ok (.putfield 64, 3) := dk_181 0 64 (dk_at dksX1_build_3 0 rfl rfl)
theorem dX1_build_72 : decode cX1_build 72 = .ok (.aload 6, 2) := dk_25 6 (dk_at dksX1_build_3 3 rfl rfl)
theorem dX1_build_74 : decode cX1_build 74 = .ok (.iload_n 2, 1) := dk_28 (dk_at dksX1_build_3 5 rfl rfl)
theorem dX1_build_75 : decode cX1_build 75 = .ok (.iload_n 1, 1) := dk_27 (dk_at dksX1_build_3 6 rfl rfl)
theorem dX1_build_76 : decode cX1_build 76 = .ok (.isub, 1) := dk_100 (dk_at dksX1_build_3 7 rfl rfl)
theorem dX1_build_77 : decode cX1_build 77 = .ok (.putfield 76, 3) := dk_181 0 76 (dk_at dksX1_build_3 8 rfl rfl)
theorem dX1_build_80 : decode cX1_build 80 = .ok (.aload 6, 2) := dk_25 6 (dk_at dksX1_build_3 11 rfl rfl)
theorem dX1_build_82 : decode cX1_build 82 = .ok (.areturn, 1) := dk_176 (dk_at dksX1_build_3 13 rfl rfl)
abbrev cX1_replace : ByteArray := prog_8_method_20_code
def yX1_replace : MethodName := ⟨RX1, "replace", "(LDeadlineTree$Node;LDeadlineTree$Node;LDeadlineTree$Node;)V"⟩
def dkwX1_replace_1 : List UInt8 := [181, 0, 61, 167, 0, 8, 43, 45, 181, 0, 64, 177]
abbrev dktX1_replace_1 : List UInt8 := dkwX1_replace_1 ++ []
def dkwX1_replace_0 : List UInt8 := [43, 199, 0, 11, 42, 45, 181, 0, 53, 167, 0, 24, 43, 180, 0, 61, 44, 166, 0, 11, 43, 45]
abbrev dktX1_replace_0 : List UInt8 := dkwX1_replace_0 ++ dktX1_replace_1
theorem dksX1_replace_0 : cX1_replace.data.toList.drop 0 = dktX1_replace_0 := by decide +kernel
theorem dksX1_replace_1 : cX1_replace.data.toList.drop 22 = dktX1_replace_1 := dk_seg dksX1_replace_0 22 rfl rfl
theorem dX1_replace_0 : decode cX1_replace 0 = .ok (.aload_n 1, 1) := dk_43 (dk_at dksX1_replace_0 0 rfl rfl)
theorem dX1_replace_1 : decode cX1_replace 1 = .ok (.ifnonnull 11, 3) := dk_199 0 11 (dk_at dksX1_replace_0 1 rfl rfl)
theorem dX1_replace_4 : decode cX1_replace 4 = .ok (.aload_n 0, 1) := dk_42 (dk_at dksX1_replace_0 4 rfl rfl)
theorem dX1_replace_5 : decode cX1_replace 5 = .ok (.aload_n 3, 1) := dk_45 (dk_at dksX1_replace_0 5 rfl rfl)
theorem dX1_replace_6 : decode cX1_replace 6 = .ok (.putfield 53, 3) := dk_181 0 53 (dk_at dksX1_replace_0 6 rfl rfl)
theorem dX1_replace_9 : decode cX1_replace 9 = .ok (.goto 24, 3) := dk_167 0 24 (dk_at dksX1_replace_0 9 rfl rfl)
theorem dX1_replace_12 : decode cX1_replace 12 = .ok (.aload_n 1, 1) := dk_43 (dk_at dksX1_replace_0 12 rfl rfl)
theorem dX1_replace_13 : decode cX1_replace 13 = .ok (.getfield 61, 3) := dk_180 0 61 (dk_at dksX1_replace_0 13 rfl rfl)
theorem dX1_replace_16 : decode cX1_replace 16 = .ok (.aload_n 2, 1) := dk_44 (dk_at dksX1_replace_0 16 rfl rfl)
theorem dX1_replace_17 : decode cX1_replace 17 = .ok (.if_acmp .ne 11, 3) := dk_166 0 11 (dk_at dksX1_replace_0 17 rfl rfl)
theorem dX1_replace_20 : decode cX1_replace 20 = .ok (.aload_n 1, 1) := dk_43 (dk_at dksX1_replace_0 20 rfl rfl)
theorem dX1_replace_21 : decode cX1_replace 21 = .ok (.aload_n 3, 1) := dk_45 (dk_at dksX1_replace_0 21 rfl rfl)
theorem dX1_replace_22 : decode cX1_replace 22 = .ok (.putfield 61, 3) := dk_181 0 61 (dk_at dksX1_replace_1 0 rfl rfl)
theorem dX1_replace_25 : decode cX1_replace 25 = .ok (.goto 8, 3) := dk_167 0 8 (dk_at dksX1_replace_1 3 rfl rfl)
theorem dX1_replace_28 : decode cX1_replace 28 = .ok (.aload_n 1, 1) := dk_43 (dk_at dksX1_replace_1 6 rfl rfl)
theorem dX1_replace_29 : decode cX1_replace 29 = .ok (.aload_n 3, 1) := dk_45 (dk_at dksX1_replace_1 7 rfl rfl)
theorem dX1_replace_30 : decode cX1_replace 30 = .ok (.putfield 64, 3) := dk_181 0 64 (dk_at dksX1_replace_1 8 rfl rfl)
theorem dX1_replace_33 : decode cX1_replace 33 = .ok (.return_, 1) := dk_177 (dk_at dksX1_replace_1 11 rfl rfl)
abbrev cX1_copy : ByteArray := prog_8_method_3_code
def yX1_copy : MethodName := ⟨RX1, "copy", "(LDeadlineTree$State;)V"⟩
def dkwX1_copy_7 : List UInt8 := [43, 180, 0, 31, 3, 42, 180, 0, 31, 3, 16, 12, 184, 0, 79, 177]
abbrev dktX1_copy_7 : List UInt8 := dkwX1_copy_7 ++ []
def dkwX1_copy_6 : List UInt8 := [180, 0, 25, 3, 16, 12, 184, 0, 79, 43, 180, 0, 28, 3, 42, 180, 0, 28, 3, 16, 12, 184, 0, 79]
abbrev dktX1_copy_6 : List UInt8 := dkwX1_copy_6 ++ dktX1_copy_7
def dkwX1_copy_5 : List UInt8 := [167, 255, 170, 43, 180, 0, 21, 3, 42, 180, 0, 21, 3, 16, 12, 184, 0, 79, 43, 180, 0, 25, 3, 42]
abbrev dktX1_copy_5 : List UInt8 := dkwX1_copy_5 ++ dktX1_copy_6
def dkwX1_copy_4 : List UInt8 := [181, 0, 70, 45, 25, 4, 180, 0, 73, 181, 0, 73, 45, 25, 4, 180, 0, 76, 181, 0, 76, 132, 2, 1]
abbrev dktX1_copy_4 : List UInt8 := dkwX1_copy_4 ++ dktX1_copy_5
def dkwX1_copy_3 : List UInt8 := [180, 0, 64, 182, 0, 57, 181, 0, 64, 45, 25, 4, 180, 0, 67, 181, 0, 67, 45, 25, 4, 180, 0, 70]
abbrev dktX1_copy_3 : List UInt8 := dkwX1_copy_3 ++ dktX1_copy_4
def dkwX1_copy_2 : List UInt8 := [180, 0, 17, 28, 50, 58, 4, 45, 42, 25, 4, 180, 0, 61, 182, 0, 57, 181, 0, 61, 45, 42, 25, 4]
abbrev dktX1_copy_2 : List UInt8 := dkwX1_copy_2 ++ dktX1_copy_3
def dkwX1_copy_1 : List UInt8 := [182, 0, 57, 181, 0, 53, 3, 61, 28, 16, 23, 162, 0, 86, 42, 180, 0, 17, 28, 50, 78, 43]
abbrev dktX1_copy_1 : List UInt8 := dkwX1_copy_1 ++ dktX1_copy_2
def dkwX1_copy_0 : List UInt8 := [42, 43, 180, 0, 47, 181, 0, 47, 42, 43, 180, 0, 50, 181, 0, 50, 42, 42, 43, 180, 0, 53]
abbrev dktX1_copy_0 : List UInt8 := dkwX1_copy_0 ++ dktX1_copy_1
theorem dksX1_copy_0 : cX1_copy.data.toList.drop 0 = dktX1_copy_0 := by decide +kernel
theorem dksX1_copy_1 : cX1_copy.data.toList.drop 22 = dktX1_copy_1 := dk_seg dksX1_copy_0 22 rfl rfl
theorem dksX1_copy_2 : cX1_copy.data.toList.drop 44 = dktX1_copy_2 := dk_seg dksX1_copy_1 22 rfl rfl
theorem dksX1_copy_3 : cX1_copy.data.toList.drop 68 = dktX1_copy_3 := dk_seg dksX1_copy_2 24 rfl rfl
theorem dksX1_copy_4 : cX1_copy.data.toList.drop 92 = dktX1_copy_4 := dk_seg dksX1_copy_3 24 rfl rfl
theorem dksX1_copy_5 : cX1_copy.data.toList.drop 116 = dktX1_copy_5 := dk_seg dksX1_copy_4 24 rfl rfl
theorem dksX1_copy_6 : cX1_copy.data.toList.drop 140 = dktX1_copy_6 := dk_seg dksX1_copy_5 24 rfl rfl
theorem dksX1_copy_7 : cX1_copy.data.toList.drop 164 = dktX1_copy_7 := dk_seg dksX1_copy_6 24 rfl rfl
theorem dX1_copy_0 : decode cX1_copy 0 = .ok (.aload_n 0, 1) := dk_42 (dk_at dksX1_copy_0 0 rfl rfl)
theorem dX1_copy_1 : decode cX1_copy 1 = .ok (.aload_n 1, 1) := dk_43 (dk_at dksX1_copy_0 1 rfl rfl)
theorem dX1_copy_2 : decode cX1_copy 2 = .ok (.getfield 47, 3) := dk_180 0 47 (dk_at dksX1_copy_0 2 rfl rfl)
theorem dX1_copy_5 : decode cX1_copy 5 = .ok (.putfield 47, 3) := dk_181 0 47 (dk_at dksX1_copy_0 5 rfl rfl)
theorem dX1_copy_8 : decode cX1_copy 8 = .ok (.aload_n 0, 1) := dk_42 (dk_at dksX1_copy_0 8 rfl rfl)
theorem dX1_copy_9 : decode cX1_copy 9 = .ok (.aload_n 1, 1) := dk_43 (dk_at dksX1_copy_0 9 rfl rfl)
theorem dX1_copy_10 : decode cX1_copy 10 = .ok (.getfield 50, 3) := dk_180 0 50 (dk_at dksX1_copy_0 10 rfl rfl)
theorem dX1_copy_13 : decode cX1_copy 13 = .ok (.putfield 50, 3) := dk_181 0 50 (dk_at dksX1_copy_0 13 rfl rfl)
theorem dX1_copy_16 : decode cX1_copy 16 = .ok (.aload_n 0, 1) := dk_42 (dk_at dksX1_copy_0 16 rfl rfl)
theorem dX1_copy_17 : decode cX1_copy 17 = .ok (.aload_n 0, 1) := dk_42 (dk_at dksX1_copy_0 17 rfl rfl)
theorem dX1_copy_18 : decode cX1_copy 18 = .ok (.aload_n 1, 1) := dk_43 (dk_at dksX1_copy_0 18 rfl rfl)
theorem dX1_copy_19 : decode cX1_copy 19 = .ok (.getfield 53, 3) := dk_180 0 53 (dk_at dksX1_copy_0 19 rfl rfl)
theorem dX1_copy_22 : decode cX1_copy 22 = .ok (.invokevirtual 57, 3) := dk_182 0 57 (dk_at dksX1_copy_1 0 rfl rfl)
theorem dX1_copy_25 : decode cX1_copy 25 = .ok (.putfield 53, 3) := dk_181 0 53 (dk_at dksX1_copy_1 3 rfl rfl)
theorem dX1_copy_28 : decode cX1_copy 28 = .ok (.iconst 0, 1) := dk_3 (dk_at dksX1_copy_1 6 rfl rfl)
theorem dX1_copy_29 : decode cX1_copy 29 = .ok (.istore_n 2, 1) := dk_61 (dk_at dksX1_copy_1 7 rfl rfl)
theorem dX1_copy_30 : decode cX1_copy 30 = .ok (.iload_n 2, 1) := dk_28 (dk_at dksX1_copy_1 8 rfl rfl)
theorem dX1_copy_31 : decode cX1_copy 31 = .ok (.bipush 23, 2) := dk_16 23 (dk_at dksX1_copy_1 9 rfl rfl)
theorem dX1_copy_33 : decode cX1_copy 33 = .ok (.if_icmp .ge 86, 3) := dk_162 0 86 (dk_at dksX1_copy_1 11 rfl rfl)
theorem dX1_copy_36 : decode cX1_copy 36 = .ok (.aload_n 0, 1) := dk_42 (dk_at dksX1_copy_1 14 rfl rfl)
theorem dX1_copy_37 : decode cX1_copy 37 = .ok (.getfield 17, 3) := dk_180 0 17 (dk_at dksX1_copy_1 15 rfl rfl)
theorem dX1_copy_40 : decode cX1_copy 40 = .ok (.iload_n 2, 1) := dk_28 (dk_at dksX1_copy_1 18 rfl rfl)
theorem dX1_copy_41 : decode cX1_copy 41 = .ok (.aaload, 1) := dk_50 (dk_at dksX1_copy_1 19 rfl rfl)
theorem dX1_copy_42 : decode cX1_copy 42 = .ok (.astore_n 3, 1) := dk_78 (dk_at dksX1_copy_1 20 rfl rfl)
theorem dX1_copy_43 : decode cX1_copy 43 = .ok (.aload_n 1, 1) := dk_43 (dk_at dksX1_copy_1 21 rfl rfl)
theorem dX1_copy_44 : decode cX1_copy 44 = .ok (.getfield 17, 3) := dk_180 0 17 (dk_at dksX1_copy_2 0 rfl rfl)
theorem dX1_copy_47 : decode cX1_copy 47 = .ok (.iload_n 2, 1) := dk_28 (dk_at dksX1_copy_2 3 rfl rfl)
theorem dX1_copy_48 : decode cX1_copy 48 = .ok (.aaload, 1) := dk_50 (dk_at dksX1_copy_2 4 rfl rfl)
theorem dX1_copy_49 : decode cX1_copy 49 = .ok (.astore 4, 2) := dk_58 4 (dk_at dksX1_copy_2 5 rfl rfl)
theorem dX1_copy_51 : decode cX1_copy 51 = .ok (.aload_n 3, 1) := dk_45 (dk_at dksX1_copy_2 7 rfl rfl)
theorem dX1_copy_52 : decode cX1_copy 52 = .ok (.aload_n 0, 1) := dk_42 (dk_at dksX1_copy_2 8 rfl rfl)
theorem dX1_copy_53 : decode cX1_copy 53 = .ok (.aload 4, 2) := dk_25 4 (dk_at dksX1_copy_2 9 rfl rfl)
theorem dX1_copy_55 : decode cX1_copy 55 = .ok (.getfield 61, 3) := dk_180 0 61 (dk_at dksX1_copy_2 11 rfl rfl)
theorem dX1_copy_58 : decode cX1_copy 58 = .ok (.invokevirtual 57, 3) := dk_182 0 57 (dk_at dksX1_copy_2 14 rfl rfl)
theorem dX1_copy_61 : decode cX1_copy 61 = .ok (.putfield 61, 3) := dk_181 0 61 (dk_at dksX1_copy_2 17 rfl rfl)
theorem dX1_copy_64 : decode cX1_copy 64 = .ok (.aload_n 3, 1) := dk_45 (dk_at dksX1_copy_2 20 rfl rfl)
theorem dX1_copy_65 : decode cX1_copy 65 = .ok (.aload_n 0, 1) := dk_42 (dk_at dksX1_copy_2 21 rfl rfl)
theorem dX1_copy_66 : decode cX1_copy 66 = .ok (.aload 4, 2) := dk_25 4 (dk_at dksX1_copy_2 22 rfl rfl)
theorem dX1_copy_68 : decode cX1_copy 68 = .ok (.getfield 64, 3) := dk_180 0 64 (dk_at dksX1_copy_3 0 rfl rfl)
theorem dX1_copy_71 : decode cX1_copy 71 = .ok (.invokevirtual 57, 3) := dk_182 0 57 (dk_at dksX1_copy_3 3 rfl rfl)
theorem dX1_copy_74 : decode cX1_copy 74 = .ok (.putfield 64, 3) := dk_181 0 64 (dk_at dksX1_copy_3 6 rfl rfl)
theorem dX1_copy_77 : decode cX1_copy 77 = .ok (.aload_n 3, 1) := dk_45 (dk_at dksX1_copy_3 9 rfl rfl)
theorem dX1_copy_78 : decode cX1_copy 78 = .ok (.aload 4, 2) := dk_25 4 (dk_at dksX1_copy_3 10 rfl rfl)
theorem dX1_copy_80 : decode cX1_copy 80 = .ok (.getfield 67, 3) := dk_180 0 67 (dk_at dksX1_copy_3 12 rfl rfl)
theorem dX1_copy_83 : decode cX1_copy 83 = .ok (.putfield 67, 3) := dk_181 0 67 (dk_at dksX1_copy_3 15 rfl rfl)
theorem dX1_copy_86 : decode cX1_copy 86 = .ok (.aload_n 3, 1) := dk_45 (dk_at dksX1_copy_3 18 rfl rfl)
theorem dX1_copy_87 : decode cX1_copy 87 = .ok (.aload 4, 2) := dk_25 4 (dk_at dksX1_copy_3 19 rfl rfl)
theorem dX1_copy_89 : decode cX1_copy 89 = .ok (.getfield 70, 3) := dk_180 0 70 (dk_at dksX1_copy_3 21 rfl rfl)
theorem dX1_copy_92 : decode cX1_copy 92 = .ok (.putfield 70, 3) := dk_181 0 70 (dk_at dksX1_copy_4 0 rfl rfl)
theorem dX1_copy_95 : decode cX1_copy 95 = .ok (.aload_n 3, 1) := dk_45 (dk_at dksX1_copy_4 3 rfl rfl)
theorem dX1_copy_96 : decode cX1_copy 96 = .ok (.aload 4, 2) := dk_25 4 (dk_at dksX1_copy_4 4 rfl rfl)
theorem dX1_copy_98 : decode cX1_copy 98 = .ok (.getfield 73, 3) := dk_180 0 73 (dk_at dksX1_copy_4 6 rfl rfl)
theorem dX1_copy_101 : decode cX1_copy 101 = .ok (.putfield 73, 3) := dk_181 0 73 (dk_at dksX1_copy_4 9 rfl rfl)
theorem dX1_copy_104 : decode cX1_copy 104 = .ok (.aload_n 3, 1) := dk_45 (dk_at dksX1_copy_4 12 rfl rfl)
theorem dX1_copy_105 : decode cX1_copy 105 = .ok (.aload 4, 2) := dk_25 4 (dk_at dksX1_copy_4 13 rfl rfl)
theorem dX1_copy_107 : decode cX1_copy 107 = .ok (.getfield 76, 3) := dk_180 0 76 (dk_at dksX1_copy_4 15 rfl rfl)
theorem dX1_copy_110 : decode cX1_copy 110 = .ok (.putfield 76, 3) := dk_181 0 76 (dk_at dksX1_copy_4 18 rfl rfl)
theorem dX1_copy_113 : decode cX1_copy 113 = .ok (.iinc 2 1, 3) := dk_132 2 1 (dk_at dksX1_copy_4 21 rfl rfl)
theorem dX1_copy_116 : decode cX1_copy 116 = .ok (.goto (-86), 3) := dk_167 255 170 (dk_at dksX1_copy_5 0 rfl rfl)
theorem dX1_copy_119 : decode cX1_copy 119 = .ok (.aload_n 1, 1) := dk_43 (dk_at dksX1_copy_5 3 rfl rfl)
theorem dX1_copy_120 : decode cX1_copy 120 = .ok (.getfield 21, 3) := dk_180 0 21 (dk_at dksX1_copy_5 4 rfl rfl)
theorem dX1_copy_123 : decode cX1_copy 123 = .ok (.iconst 0, 1) := dk_3 (dk_at dksX1_copy_5 7 rfl rfl)
theorem dX1_copy_124 : decode cX1_copy 124 = .ok (.aload_n 0, 1) := dk_42 (dk_at dksX1_copy_5 8 rfl rfl)
theorem dX1_copy_125 : decode cX1_copy 125 = .ok (.getfield 21, 3) := dk_180 0 21 (dk_at dksX1_copy_5 9 rfl rfl)
theorem dX1_copy_128 : decode cX1_copy 128 = .ok (.iconst 0, 1) := dk_3 (dk_at dksX1_copy_5 12 rfl rfl)
theorem dX1_copy_129 : decode cX1_copy 129 = .ok (.bipush 12, 2) := dk_16 12 (dk_at dksX1_copy_5 13 rfl rfl)
theorem dX1_copy_131 : decode cX1_copy 131 = .ok (.invokestatic 79, 3) := dk_184 0 79 (dk_at dksX1_copy_5 15 rfl rfl)
theorem dX1_copy_134 : decode cX1_copy 134 = .ok (.aload_n 1, 1) := dk_43 (dk_at dksX1_copy_5 18 rfl rfl)
theorem dX1_copy_135 : decode cX1_copy 135 = .ok (.getfield 25, 3) := dk_180 0 25 (dk_at dksX1_copy_5 19 rfl rfl)
theorem dX1_copy_138 : decode cX1_copy 138 = .ok (.iconst 0, 1) := dk_3 (dk_at dksX1_copy_5 22 rfl rfl)
theorem dX1_copy_139 : decode cX1_copy 139 = .ok (.aload_n 0, 1) := dk_42 (dk_at dksX1_copy_5 23 rfl rfl)
theorem dX1_copy_140 : decode cX1_copy 140 = .ok (.getfield 25, 3) := dk_180 0 25 (dk_at dksX1_copy_6 0 rfl rfl)
theorem dX1_copy_143 : decode cX1_copy 143 = .ok (.iconst 0, 1) := dk_3 (dk_at dksX1_copy_6 3 rfl rfl)
theorem dX1_copy_144 : decode cX1_copy 144 = .ok (.bipush 12, 2) := dk_16 12 (dk_at dksX1_copy_6 4 rfl rfl)
theorem dX1_copy_146 : decode cX1_copy 146 = .ok (.invokestatic 79, 3) := dk_184 0 79 (dk_at dksX1_copy_6 6 rfl rfl)
theorem dX1_copy_149 : decode cX1_copy 149 = .ok (.aload_n 1, 1) := dk_43 (dk_at dksX1_copy_6 9 rfl rfl)
theorem dX1_copy_150 : decode cX1_copy 150 = .ok (.getfield 28, 3) := dk_180 0 28 (dk_at dksX1_copy_6 10 rfl rfl)
theorem dX1_copy_153 : decode cX1_copy 153 = .ok (.iconst 0, 1) := dk_3 (dk_at dksX1_copy_6 13 rfl rfl)
theorem dX1_copy_154 : decode cX1_copy 154 = .ok (.aload_n 0, 1) := dk_42 (dk_at dksX1_copy_6 14 rfl rfl)
theorem dX1_copy_155 : decode cX1_copy 155 = .ok (.getfield 28, 3) := dk_180 0 28 (dk_at dksX1_copy_6 15 rfl rfl)
theorem dX1_copy_158 : decode cX1_copy 158 = .ok (.iconst 0, 1) := dk_3 (dk_at dksX1_copy_6 18 rfl rfl)
theorem dX1_copy_159 : decode cX1_copy 159 = .ok (.bipush 12, 2) := dk_16 12 (dk_at dksX1_copy_6 19 rfl rfl)
theorem dX1_copy_161 : decode cX1_copy 161 = .ok (.invokestatic 79, 3) := dk_184 0 79 (dk_at dksX1_copy_6 21 rfl rfl)
theorem dX1_copy_164 : decode cX1_copy 164 = .ok (.aload_n 1, 1) := dk_43 (dk_at dksX1_copy_7 0 rfl rfl)
theorem dX1_copy_165 : decode cX1_copy 165 = .ok (.getfield 31, 3) := dk_180 0 31 (dk_at dksX1_copy_7 1 rfl rfl)
theorem dX1_copy_168 : decode cX1_copy 168 = .ok (.iconst 0, 1) := dk_3 (dk_at dksX1_copy_7 4 rfl rfl)
theorem dX1_copy_169 : decode cX1_copy 169 = .ok (.aload_n 0, 1) := dk_42 (dk_at dksX1_copy_7 5 rfl rfl)
theorem dX1_copy_170 : decode cX1_copy 170 = .ok (.getfield 31, 3) := dk_180 0 31 (dk_at dksX1_copy_7 6 rfl rfl)
theorem dX1_copy_173 : decode cX1_copy 173 = .ok (.iconst 0, 1) := dk_3 (dk_at dksX1_copy_7 9 rfl rfl)
theorem dX1_copy_174 : decode cX1_copy 174 = .ok (.bipush 12, 2) := dk_16 12 (dk_at dksX1_copy_7 10 rfl rfl)
theorem dX1_copy_176 : decode cX1_copy 176 = .ok (.invokestatic 79, 3) := dk_184 0 79 (dk_at dksX1_copy_7 12 rfl rfl)
theorem dX1_copy_179 : decode cX1_copy 179 = .ok (.return_, 1) := dk_177 (dk_at dksX1_copy_7 15 rfl rfl)
abbrev cX1_own : ByteArray := prog_8_method_2_code
def yX1_own : MethodName := ⟨RX1, "own", "(LDeadlineTree$Node;)LDeadlineTree$Node;"⟩
def dkwX1_own_0 : List UInt8 := [43, 199, 0, 7, 1, 167, 0, 12, 42, 180, 0, 17, 43, 180, 0, 43, 50, 176]
abbrev dktX1_own_0 : List UInt8 := dkwX1_own_0 ++ []
theorem dksX1_own_0 : cX1_own.data.toList.drop 0 = dktX1_own_0 := by decide +kernel
theorem dX1_own_0 : decode cX1_own 0 = .ok (.aload_n 1, 1) := dk_43 (dk_at dksX1_own_0 0 rfl rfl)
theorem dX1_own_1 : decode cX1_own 1 = .ok (.ifnonnull 7, 3) := dk_199 0 7 (dk_at dksX1_own_0 1 rfl rfl)
theorem dX1_own_4 : decode cX1_own 4 = .ok (.aconst_null, 1) := dk_1 (dk_at dksX1_own_0 4 rfl rfl)
theorem dX1_own_5 : decode cX1_own 5 = .ok (.goto 12, 3) := dk_167 0 12 (dk_at dksX1_own_0 5 rfl rfl)
theorem dX1_own_8 : decode cX1_own 8 = .ok (.aload_n 0, 1) := dk_42 (dk_at dksX1_own_0 8 rfl rfl)
theorem dX1_own_9 : decode cX1_own 9 = .ok (.getfield 17, 3) := dk_180 0 17 (dk_at dksX1_own_0 9 rfl rfl)
theorem dX1_own_12 : decode cX1_own 12 = .ok (.aload_n 1, 1) := dk_43 (dk_at dksX1_own_0 12 rfl rfl)
theorem dX1_own_13 : decode cX1_own 13 = .ok (.getfield 43, 3) := dk_180 0 43 (dk_at dksX1_own_0 13 rfl rfl)
theorem dX1_own_16 : decode cX1_own 16 = .ok (.aaload, 1) := dk_50 (dk_at dksX1_own_0 16 rfl rfl)
theorem dX1_own_17 : decode cX1_own 17 = .ok (.areturn, 1) := dk_176 (dk_at dksX1_own_0 17 rfl rfl)
abbrev cX1_cut : ByteArray := prog_8_method_24_code
def yX1_cut : MethodName := ⟨RX1, "cut", "(I)I"⟩
def dkwX1_cut_5 : List UInt8 := [16, 252, 159, 0, 11, 42, 25, 5, 21, 6, 182, 0, 121, 42, 25, 5, 182, 0, 190, 172]
abbrev dktX1_cut_5 : List UInt8 := dkwX1_cut_5 ++ []
def dkwX1_cut_4 : List UInt8 := [182, 0, 150, 42, 45, 182, 0, 150, 42, 89, 180, 0, 47, 4, 27, 120, 2, 130, 126, 181, 0, 47, 21, 6]
abbrev dktX1_cut_4 : List UInt8 := dkwX1_cut_4 ++ dktX1_cut_5
def dkwX1_cut_3 : List UInt8 := [180, 0, 61, 58, 5, 45, 180, 0, 73, 54, 6, 42, 44, 45, 25, 5, 182, 0, 165, 42, 25, 4]
abbrev dktX1_cut_3 : List UInt8 := dkwX1_cut_3 ++ dktX1_cut_4
def dkwX1_cut_2 : List UInt8 := [58, 4, 167, 255, 223, 45, 180, 0, 61, 25, 4, 166, 0, 10, 45, 180, 0, 64, 167, 0, 7, 45]
abbrev dktX1_cut_2 : List UInt8 := dkwX1_cut_2 ++ dktX1_cut_3
def dkwX1_cut_1 : List UInt8 := [25, 4, 89, 180, 0, 76, 4, 100, 181, 0, 76, 45, 77, 25, 4, 78, 42, 25, 4, 27, 182, 0, 118]
abbrev dktX1_cut_1 : List UInt8 := dkwX1_cut_1 ++ dktX1_cut_2
def dkwX1_cut_0 : List UInt8 := [42, 27, 182, 0, 187, 1, 77, 1, 78, 42, 180, 0, 53, 58, 4, 25, 4, 182, 0, 140, 154, 0, 31]
abbrev dktX1_cut_0 : List UInt8 := dkwX1_cut_0 ++ dktX1_cut_1
theorem dksX1_cut_0 : cX1_cut.data.toList.drop 0 = dktX1_cut_0 := by decide +kernel
theorem dksX1_cut_1 : cX1_cut.data.toList.drop 23 = dktX1_cut_1 := dk_seg dksX1_cut_0 23 rfl rfl
theorem dksX1_cut_2 : cX1_cut.data.toList.drop 46 = dktX1_cut_2 := dk_seg dksX1_cut_1 23 rfl rfl
theorem dksX1_cut_3 : cX1_cut.data.toList.drop 68 = dktX1_cut_3 := dk_seg dksX1_cut_2 22 rfl rfl
theorem dksX1_cut_4 : cX1_cut.data.toList.drop 90 = dktX1_cut_4 := dk_seg dksX1_cut_3 22 rfl rfl
theorem dksX1_cut_5 : cX1_cut.data.toList.drop 114 = dktX1_cut_5 := dk_seg dksX1_cut_4 24 rfl rfl
theorem dX1_cut_0 : decode cX1_cut 0 = .ok (.aload_n 0, 1) := dk_42 (dk_at dksX1_cut_0 0 rfl rfl)
theorem dX1_cut_1 : decode cX1_cut 1 = .ok (.iload_n 1, 1) := dk_27 (dk_at dksX1_cut_0 1 rfl rfl)
theorem dX1_cut_2 : decode cX1_cut 2 = .ok (.invokevirtual 187, 3) := dk_182 0 187 (dk_at dksX1_cut_0 2 rfl rfl)
theorem dX1_cut_5 : decode cX1_cut 5 = .ok (.aconst_null, 1) := dk_1 (dk_at dksX1_cut_0 5 rfl rfl)
theorem dX1_cut_6 : decode cX1_cut 6 = .ok (.astore_n 2, 1) := dk_77 (dk_at dksX1_cut_0 6 rfl rfl)
theorem dX1_cut_7 : decode cX1_cut 7 = .ok (.aconst_null, 1) := dk_1 (dk_at dksX1_cut_0 7 rfl rfl)
theorem dX1_cut_8 : decode cX1_cut 8 = .ok (.astore_n 3, 1) := dk_78 (dk_at dksX1_cut_0 8 rfl rfl)
theorem dX1_cut_9 : decode cX1_cut 9 = .ok (.aload_n 0, 1) := dk_42 (dk_at dksX1_cut_0 9 rfl rfl)
theorem dX1_cut_10 : decode cX1_cut 10 = .ok (.getfield 53, 3) := dk_180 0 53 (dk_at dksX1_cut_0 10 rfl rfl)
theorem dX1_cut_13 : decode cX1_cut 13 = .ok (.astore 4, 2) := dk_58 4 (dk_at dksX1_cut_0 13 rfl rfl)
theorem dX1_cut_15 : decode cX1_cut 15 = .ok (.aload 4, 2) := dk_25 4 (dk_at dksX1_cut_0 15 rfl rfl)
theorem dX1_cut_17 : decode cX1_cut 17 = .ok (.invokevirtual 140, 3) := dk_182 0 140 (dk_at dksX1_cut_0 17 rfl rfl)
theorem dX1_cut_20 : decode cX1_cut 20 = .ok (.ifCond .ne 31, 3) := dk_154 0 31 (dk_at dksX1_cut_0 20 rfl rfl)
theorem dX1_cut_23 : decode cX1_cut 23 = .ok (.aload 4, 2) := dk_25 4 (dk_at dksX1_cut_1 0 rfl rfl)
theorem dX1_cut_25 : decode cX1_cut 25 = .ok (.dup, 1) := dk_89 (dk_at dksX1_cut_1 2 rfl rfl)
theorem dX1_cut_26 : decode cX1_cut 26 = .ok (.getfield 76, 3) := dk_180 0 76 (dk_at dksX1_cut_1 3 rfl rfl)
theorem dX1_cut_29 : decode cX1_cut 29 = .ok (.iconst 1, 1) := dk_4 (dk_at dksX1_cut_1 6 rfl rfl)
theorem dX1_cut_30 : decode cX1_cut 30 = .ok (.isub, 1) := dk_100 (dk_at dksX1_cut_1 7 rfl rfl)
theorem dX1_cut_31 : decode cX1_cut 31 = .ok (.putfield 76, 3) := dk_181 0 76 (dk_at dksX1_cut_1 8 rfl rfl)
theorem dX1_cut_34 : decode cX1_cut 34 = .ok (.aload_n 3, 1) := dk_45 (dk_at dksX1_cut_1 11 rfl rfl)
theorem dX1_cut_35 : decode cX1_cut 35 = .ok (.astore_n 2, 1) := dk_77 (dk_at dksX1_cut_1 12 rfl rfl)
theorem dX1_cut_36 : decode cX1_cut 36 = .ok (.aload 4, 2) := dk_25 4 (dk_at dksX1_cut_1 13 rfl rfl)
theorem dX1_cut_38 : decode cX1_cut 38 = .ok (.astore_n 3, 1) := dk_78 (dk_at dksX1_cut_1 15 rfl rfl)
theorem dX1_cut_39 : decode cX1_cut 39 = .ok (.aload_n 0, 1) := dk_42 (dk_at dksX1_cut_1 16 rfl rfl)
theorem dX1_cut_40 : decode cX1_cut 40 = .ok (.aload 4, 2) := dk_25 4 (dk_at dksX1_cut_1 17 rfl rfl)
theorem dX1_cut_42 : decode cX1_cut 42 = .ok (.iload_n 1, 1) := dk_27 (dk_at dksX1_cut_1 19 rfl rfl)
theorem dX1_cut_43 : decode cX1_cut 43 = .ok (.invokevirtual 118, 3) := dk_182 0 118 (dk_at dksX1_cut_1 20 rfl rfl)
theorem dX1_cut_46 : decode cX1_cut 46 = .ok (.astore 4, 2) := dk_58 4 (dk_at dksX1_cut_2 0 rfl rfl)
theorem dX1_cut_48 : decode cX1_cut 48 = .ok (.goto (-33), 3) := dk_167 255 223 (dk_at dksX1_cut_2 2 rfl rfl)
theorem dX1_cut_51 : decode cX1_cut 51 = .ok (.aload_n 3, 1) := dk_45 (dk_at dksX1_cut_2 5 rfl rfl)
theorem dX1_cut_52 : decode cX1_cut 52 = .ok (.getfield 61, 3) := dk_180 0 61 (dk_at dksX1_cut_2 6 rfl rfl)
theorem dX1_cut_55 : decode cX1_cut 55 = .ok (.aload 4, 2) := dk_25 4 (dk_at dksX1_cut_2 9 rfl rfl)
theorem dX1_cut_57 : decode cX1_cut 57 = .ok (.if_acmp .ne 10, 3) := dk_166 0 10 (dk_at dksX1_cut_2 11 rfl rfl)
theorem dX1_cut_60 : decode cX1_cut 60 = .ok (.aload_n 3, 1) := dk_45 (dk_at dksX1_cut_2 14 rfl rfl)
theorem dX1_cut_61 : decode cX1_cut 61 = .ok (.getfield 64, 3) := dk_180 0 64 (dk_at dksX1_cut_2 15 rfl rfl)
theorem dX1_cut_64 : decode cX1_cut 64 = .ok (.goto 7, 3) := dk_167 0 7 (dk_at dksX1_cut_2 18 rfl rfl)
theorem dX1_cut_67 : decode cX1_cut 67 = .ok (.aload_n 3, 1) := dk_45 (dk_at dksX1_cut_2 21 rfl rfl)
theorem dX1_cut_68 : decode cX1_cut 68 = .ok (.getfield 61, 3) := dk_180 0 61 (dk_at dksX1_cut_3 0 rfl rfl)
theorem dX1_cut_71 : decode cX1_cut 71 = .ok (.astore 5, 2) := dk_58 5 (dk_at dksX1_cut_3 3 rfl rfl)
theorem dX1_cut_73 : decode cX1_cut 73 = .ok (.aload_n 3, 1) := dk_45 (dk_at dksX1_cut_3 5 rfl rfl)
theorem dX1_cut_74 : decode cX1_cut 74 = .ok (.getfield 73, 3) := dk_180 0 73 (dk_at dksX1_cut_3 6 rfl rfl)
theorem dX1_cut_77 : decode cX1_cut 77 = .ok (.istore 6, 2) := dk_54 6 (dk_at dksX1_cut_3 9 rfl rfl)
theorem dX1_cut_79 : decode cX1_cut 79 = .ok (.aload_n 0, 1) := dk_42 (dk_at dksX1_cut_3 11 rfl rfl)
theorem dX1_cut_80 : decode cX1_cut 80 = .ok (.aload_n 2, 1) := dk_44 (dk_at dksX1_cut_3 12 rfl rfl)
theorem dX1_cut_81 : decode cX1_cut 81 = .ok (.aload_n 3, 1) := dk_45 (dk_at dksX1_cut_3 13 rfl rfl)
theorem dX1_cut_82 : decode cX1_cut 82 = .ok (.aload 5, 2) := dk_25 5 (dk_at dksX1_cut_3 14 rfl rfl)
theorem dX1_cut_84 : decode cX1_cut 84 = .ok (.invokevirtual 165, 3) := dk_182 0 165 (dk_at dksX1_cut_3 16 rfl rfl)
theorem dX1_cut_87 : decode cX1_cut 87 = .ok (.aload_n 0, 1) := dk_42 (dk_at dksX1_cut_3 19 rfl rfl)
theorem dX1_cut_88 : decode cX1_cut 88 = .ok (.aload 4, 2) := dk_25 4 (dk_at dksX1_cut_3 20 rfl rfl)
theorem dX1_cut_90 : decode cX1_cut 90 = .ok (.invokevirtual 150, 3) := dk_182 0 150 (dk_at dksX1_cut_4 0 rfl rfl)
theorem dX1_cut_93 : decode cX1_cut 93 = .ok (.aload_n 0, 1) := dk_42 (dk_at dksX1_cut_4 3 rfl rfl)
theorem dX1_cut_94 : decode cX1_cut 94 = .ok (.aload_n 3, 1) := dk_45 (dk_at dksX1_cut_4 4 rfl rfl)
theorem dX1_cut_95 : decode cX1_cut 95 = .ok (.invokevirtual 150, 3) := dk_182 0 150 (dk_at dksX1_cut_4 5 rfl rfl)
theorem dX1_cut_98 : decode cX1_cut 98 = .ok (.aload_n 0, 1) := dk_42 (dk_at dksX1_cut_4 8 rfl rfl)
theorem dX1_cut_99 : decode cX1_cut 99 = .ok (.dup, 1) := dk_89 (dk_at dksX1_cut_4 9 rfl rfl)
theorem dX1_cut_100 : decode cX1_cut 100 = .ok (.getfield 47, 3) := dk_180 0 47 (dk_at dksX1_cut_4 10 rfl rfl)
theorem dX1_cut_103 : decode cX1_cut 103 = .ok (.iconst 1, 1) := dk_4 (dk_at dksX1_cut_4 13 rfl rfl)
theorem dX1_cut_104 : decode cX1_cut 104 = .ok (.iload_n 1, 1) := dk_27 (dk_at dksX1_cut_4 14 rfl rfl)
theorem dX1_cut_105 : decode cX1_cut 105 = .ok (.ishl, 1) := dk_120 (dk_at dksX1_cut_4 15 rfl rfl)
theorem dX1_cut_106 : decode cX1_cut 106 = .ok (.iconst (-1), 1) := dk_2 (dk_at dksX1_cut_4 16 rfl rfl)
theorem dX1_cut_107 : decode cX1_cut 107 = .ok (.ixor, 1) := dk_130 (dk_at dksX1_cut_4 17 rfl rfl)
theorem dX1_cut_108 : decode cX1_cut 108 = .ok (.iand, 1) := dk_126 (dk_at dksX1_cut_4 18 rfl rfl)
theorem dX1_cut_109 : decode cX1_cut 109 = .ok (.putfield 47, 3) := dk_181 0 47 (dk_at dksX1_cut_4 19 rfl rfl)
theorem dX1_cut_112 : decode cX1_cut 112 = .ok (.iload 6, 2) := dk_21 6 (dk_at dksX1_cut_4 22 rfl rfl)
theorem dX1_cut_114 : decode cX1_cut 114 = .ok (.bipush (-4), 2) := dk_16 252 (dk_at dksX1_cut_5 0 rfl rfl)
theorem dX1_cut_116 : decode cX1_cut 116 = .ok (.if_icmp .eq 11, 3) := dk_159 0 11 (dk_at dksX1_cut_5 2 rfl rfl)
theorem dX1_cut_119 : decode cX1_cut 119 = .ok (.aload_n 0, 1) := dk_42 (dk_at dksX1_cut_5 5 rfl rfl)
theorem dX1_cut_120 : decode cX1_cut 120 = .ok (.aload 5, 2) := dk_25 5 (dk_at dksX1_cut_5 6 rfl rfl)
theorem dX1_cut_122 : decode cX1_cut 122 = .ok (.iload 6, 2) := dk_21 6 (dk_at dksX1_cut_5 8 rfl rfl)
theorem dX1_cut_124 : decode cX1_cut 124 = .ok (.invokevirtual 121, 3) := dk_182 0 121 (dk_at dksX1_cut_5 10 rfl rfl)
theorem dX1_cut_127 : decode cX1_cut 127 = .ok (.aload_n 0, 1) := dk_42 (dk_at dksX1_cut_5 13 rfl rfl)
theorem dX1_cut_128 : decode cX1_cut 128 = .ok (.aload 5, 2) := dk_25 5 (dk_at dksX1_cut_5 14 rfl rfl)
theorem dX1_cut_130 : decode cX1_cut 130 = .ok (.invokevirtual 190, 3) := dk_182 0 190 (dk_at dksX1_cut_5 16 rfl rfl)
theorem dX1_cut_133 : decode cX1_cut 133 = .ok (.ireturn, 1) := dk_172 (dk_at dksX1_cut_5 19 rfl rfl)
abbrev cX1_vacate : ByteArray := prog_8_method_15_code
def yX1_vacate : MethodName := ⟨RX1, "vacate", "(I)V"⟩
def dkwX1_vacate_0 : List UInt8 := [42, 27, 182, 0, 133, 77, 44, 16, 252, 181, 0, 73, 42, 44, 182, 0, 129, 177]
abbrev dktX1_vacate_0 : List UInt8 := dkwX1_vacate_0 ++ []
theorem dksX1_vacate_0 : cX1_vacate.data.toList.drop 0 = dktX1_vacate_0 := by decide +kernel
theorem dX1_vacate_0 : decode cX1_vacate 0 = .ok (.aload_n 0, 1) := dk_42 (dk_at dksX1_vacate_0 0 rfl rfl)
theorem dX1_vacate_1 : decode cX1_vacate 1 = .ok (.iload_n 1, 1) := dk_27 (dk_at dksX1_vacate_0 1 rfl rfl)
theorem dX1_vacate_2 : decode cX1_vacate 2 = .ok (.invokevirtual 133, 3) := dk_182 0 133 (dk_at dksX1_vacate_0 2 rfl rfl)
theorem dX1_vacate_5 : decode cX1_vacate 5 = .ok (.astore_n 2, 1) := dk_77 (dk_at dksX1_vacate_0 5 rfl rfl)
theorem dX1_vacate_6 : decode cX1_vacate 6 = .ok (.aload_n 2, 1) := dk_44 (dk_at dksX1_vacate_0 6 rfl rfl)
theorem dX1_vacate_7 : decode cX1_vacate 7 = .ok (.bipush (-4), 2) := dk_16 252 (dk_at dksX1_vacate_0 7 rfl rfl)
theorem dX1_vacate_9 : decode cX1_vacate 9 = .ok (.putfield 73, 3) := dk_181 0 73 (dk_at dksX1_vacate_0 9 rfl rfl)
theorem dX1_vacate_12 : decode cX1_vacate 12 = .ok (.aload_n 0, 1) := dk_42 (dk_at dksX1_vacate_0 12 rfl rfl)
theorem dX1_vacate_13 : decode cX1_vacate 13 = .ok (.aload_n 2, 1) := dk_44 (dk_at dksX1_vacate_0 13 rfl rfl)
theorem dX1_vacate_14 : decode cX1_vacate 14 = .ok (.invokevirtual 129, 3) := dk_182 0 129 (dk_at dksX1_vacate_0 14 rfl rfl)
theorem dX1_vacate_17 : decode cX1_vacate 17 = .ok (.return_, 1) := dk_177 (dk_at dksX1_vacate_0 17 rfl rfl)
abbrev cX1_holder : ByteArray := prog_8_method_14_code
def yX1_holder : MethodName := ⟨RX1, "holder", "(I)LDeadlineTree$Node;"⟩
def dkwX1_holder_1 : List UInt8 := [176]
abbrev dktX1_holder_1 : List UInt8 := dkwX1_holder_1 ++ []
def dkwX1_holder_0 : List UInt8 := [42, 180, 0, 53, 77, 44, 180, 0, 73, 27, 159, 0, 13, 42, 44, 27, 182, 0, 118, 77, 167, 255, 241, 44]
abbrev dktX1_holder_0 : List UInt8 := dkwX1_holder_0 ++ dktX1_holder_1
theorem dksX1_holder_0 : cX1_holder.data.toList.drop 0 = dktX1_holder_0 := by decide +kernel
theorem dksX1_holder_1 : cX1_holder.data.toList.drop 24 = dktX1_holder_1 := dk_seg dksX1_holder_0 24 rfl rfl
theorem dX1_holder_0 : decode cX1_holder 0 = .ok (.aload_n 0, 1) := dk_42 (dk_at dksX1_holder_0 0 rfl rfl)
theorem dX1_holder_1 : decode cX1_holder 1 = .ok (.getfield 53, 3) := dk_180 0 53 (dk_at dksX1_holder_0 1 rfl rfl)
theorem dX1_holder_4 : decode cX1_holder 4 = .ok (.astore_n 2, 1) := dk_77 (dk_at dksX1_holder_0 4 rfl rfl)
theorem dX1_holder_5 : decode cX1_holder 5 = .ok (.aload_n 2, 1) := dk_44 (dk_at dksX1_holder_0 5 rfl rfl)
theorem dX1_holder_6 : decode cX1_holder 6 = .ok (.getfield 73, 3) := dk_180 0 73 (dk_at dksX1_holder_0 6 rfl rfl)
theorem dX1_holder_9 : decode cX1_holder 9 = .ok (.iload_n 1, 1) := dk_27 (dk_at dksX1_holder_0 9 rfl rfl)
theorem dX1_holder_10 : decode cX1_holder 10 = .ok (.if_icmp .eq 13, 3) := dk_159 0 13 (dk_at dksX1_holder_0 10 rfl rfl)
theorem dX1_holder_13 : decode cX1_holder 13 = .ok (.aload_n 0, 1) := dk_42 (dk_at dksX1_holder_0 13 rfl rfl)
theorem dX1_holder_14 : decode cX1_holder 14 = .ok (.aload_n 2, 1) := dk_44 (dk_at dksX1_holder_0 14 rfl rfl)
theorem dX1_holder_15 : decode cX1_holder 15 = .ok (.iload_n 1, 1) := dk_27 (dk_at dksX1_holder_0 15 rfl rfl)
theorem dX1_holder_16 : decode cX1_holder 16 = .ok (.invokevirtual 118, 3) := dk_182 0 118 (dk_at dksX1_holder_0 16 rfl rfl)
theorem dX1_holder_19 : decode cX1_holder 19 = .ok (.astore_n 2, 1) := dk_77 (dk_at dksX1_holder_0 19 rfl rfl)
theorem dX1_holder_20 : decode cX1_holder 20 = .ok (.goto (-15), 3) := dk_167 255 241 (dk_at dksX1_holder_0 20 rfl rfl)
theorem dX1_holder_23 : decode cX1_holder 23 = .ok (.aload_n 2, 1) := dk_44 (dk_at dksX1_holder_0 23 rfl rfl)
theorem dX1_holder_24 : decode cX1_holder 24 = .ok (.areturn, 1) := dk_176 (dk_at dksX1_holder_1 0 rfl rfl)
abbrev cX1_pull : ByteArray := prog_8_method_13_code
def yX1_pull : MethodName := ⟨RX1, "pull", "(LDeadlineTree$Node;)V"⟩
def dkwX1_pull_4 : List UInt8 := [182, 0, 129, 177]
abbrev dktX1_pull_4 : List UInt8 := dkwX1_pull_4 ++ []
def dkwX1_pull_3 : List UInt8 := [180, 0, 64, 58, 5, 43, 25, 5, 180, 0, 73, 181, 0, 73, 25, 5, 16, 252, 181, 0, 73, 42, 25, 5]
abbrev dktX1_pull_3 : List UInt8 := dkwX1_pull_3 ++ dktX1_pull_4
def dkwX1_pull_2 : List UInt8 := [153, 0, 7, 4, 167, 0, 4, 3, 54, 4, 21, 4, 153, 0, 10, 43, 180, 0, 61, 167, 0, 7, 43]
abbrev dktX1_pull_2 : List UInt8 := dkwX1_pull_2 ++ dktX1_pull_3
def dkwX1_pull_1 : List UInt8 := [16, 252, 160, 0, 4, 177, 29, 16, 252, 159, 0, 18, 28, 16, 252, 159, 0, 16, 42, 28, 29, 182, 0, 114]
abbrev dktX1_pull_1 : List UInt8 := dkwX1_pull_1 ++ dktX1_pull_2
def dkwX1_pull_0 : List UInt8 := [43, 180, 0, 61, 184, 0, 125, 61, 43, 180, 0, 64, 184, 0, 125, 62, 28, 16, 252, 160, 0, 10, 29]
abbrev dktX1_pull_0 : List UInt8 := dkwX1_pull_0 ++ dktX1_pull_1
theorem dksX1_pull_0 : cX1_pull.data.toList.drop 0 = dktX1_pull_0 := by decide +kernel
theorem dksX1_pull_1 : cX1_pull.data.toList.drop 23 = dktX1_pull_1 := dk_seg dksX1_pull_0 23 rfl rfl
theorem dksX1_pull_2 : cX1_pull.data.toList.drop 47 = dktX1_pull_2 := dk_seg dksX1_pull_1 24 rfl rfl
theorem dksX1_pull_3 : cX1_pull.data.toList.drop 70 = dktX1_pull_3 := dk_seg dksX1_pull_2 23 rfl rfl
theorem dksX1_pull_4 : cX1_pull.data.toList.drop 94 = dktX1_pull_4 := dk_seg dksX1_pull_3 24 rfl rfl
theorem dX1_pull_0 : decode cX1_pull 0 = .ok (.aload_n 1, 1) := dk_43 (dk_at dksX1_pull_0 0 rfl rfl)
theorem dX1_pull_1 : decode cX1_pull 1 = .ok (.getfield 61, 3) := dk_180 0 61 (dk_at dksX1_pull_0 1 rfl rfl)
theorem dX1_pull_4 : decode cX1_pull 4 = .ok (.invokestatic 125, 3) := dk_184 0 125 (dk_at dksX1_pull_0 4 rfl rfl)
theorem dX1_pull_7 : decode cX1_pull 7 = .ok (.istore_n 2, 1) := dk_61 (dk_at dksX1_pull_0 7 rfl rfl)
theorem dX1_pull_8 : decode cX1_pull 8 = .ok (.aload_n 1, 1) := dk_43 (dk_at dksX1_pull_0 8 rfl rfl)
theorem dX1_pull_9 : decode cX1_pull 9 = .ok (.getfield 64, 3) := dk_180 0 64 (dk_at dksX1_pull_0 9 rfl rfl)
theorem dX1_pull_12 : decode cX1_pull 12 = .ok (.invokestatic 125, 3) := dk_184 0 125 (dk_at dksX1_pull_0 12 rfl rfl)
theorem dX1_pull_15 : decode cX1_pull 15 = .ok (.istore_n 3, 1) := dk_62 (dk_at dksX1_pull_0 15 rfl rfl)
theorem dX1_pull_16 : decode cX1_pull 16 = .ok (.iload_n 2, 1) := dk_28 (dk_at dksX1_pull_0 16 rfl rfl)
theorem dX1_pull_17 : decode cX1_pull 17 = .ok (.bipush (-4), 2) := dk_16 252 (dk_at dksX1_pull_0 17 rfl rfl)
theorem dX1_pull_19 : decode cX1_pull 19 = .ok (.if_icmp .ne 10, 3) := dk_160 0 10 (dk_at dksX1_pull_0 19 rfl rfl)
theorem dX1_pull_22 : decode cX1_pull 22 = .ok (.iload_n 3, 1) := dk_29 (dk_at dksX1_pull_0 22 rfl rfl)
theorem dX1_pull_23 : decode cX1_pull 23 = .ok (.bipush (-4), 2) := dk_16 252 (dk_at dksX1_pull_1 0 rfl rfl)
theorem dX1_pull_25 : decode cX1_pull 25 = .ok (.if_icmp .ne 4, 3) := dk_160 0 4 (dk_at dksX1_pull_1 2 rfl rfl)
theorem dX1_pull_28 : decode cX1_pull 28 = .ok (.return_, 1) := dk_177 (dk_at dksX1_pull_1 5 rfl rfl)
theorem dX1_pull_29 : decode cX1_pull 29 = .ok (.iload_n 3, 1) := dk_29 (dk_at dksX1_pull_1 6 rfl rfl)
theorem dX1_pull_30 : decode cX1_pull 30 = .ok (.bipush (-4), 2) := dk_16 252 (dk_at dksX1_pull_1 7 rfl rfl)
theorem dX1_pull_32 : decode cX1_pull 32 = .ok (.if_icmp .eq 18, 3) := dk_159 0 18 (dk_at dksX1_pull_1 9 rfl rfl)
theorem dX1_pull_35 : decode cX1_pull 35 = .ok (.iload_n 2, 1) := dk_28 (dk_at dksX1_pull_1 12 rfl rfl)
theorem dX1_pull_36 : decode cX1_pull 36 = .ok (.bipush (-4), 2) := dk_16 252 (dk_at dksX1_pull_1 13 rfl rfl)
theorem dX1_pull_38 : decode cX1_pull 38 = .ok (.if_icmp .eq 16, 3) := dk_159 0 16 (dk_at dksX1_pull_1 15 rfl rfl)
theorem dX1_pull_41 : decode cX1_pull 41 = .ok (.aload_n 0, 1) := dk_42 (dk_at dksX1_pull_1 18 rfl rfl)
theorem dX1_pull_42 : decode cX1_pull 42 = .ok (.iload_n 2, 1) := dk_28 (dk_at dksX1_pull_1 19 rfl rfl)
theorem dX1_pull_43 : decode cX1_pull 43 = .ok (.iload_n 3, 1) := dk_29 (dk_at dksX1_pull_1 20 rfl rfl)
theorem dX1_pull_44 : decode cX1_pull 44 = .ok (.invokevirtual 114, 3) := dk_182 0 114 (dk_at dksX1_pull_1 21 rfl rfl)
theorem dX1_pull_47 : decode cX1_pull 47 = .ok (.ifCond .eq 7, 3) := dk_153 0 7 (dk_at dksX1_pull_2 0 rfl rfl)
theorem dX1_pull_50 : decode cX1_pull 50 = .ok (.iconst 1, 1) := dk_4 (dk_at dksX1_pull_2 3 rfl rfl)
theorem dX1_pull_51 : decode cX1_pull 51 = .ok (.goto 4, 3) := dk_167 0 4 (dk_at dksX1_pull_2 4 rfl rfl)
theorem dX1_pull_54 : decode cX1_pull 54 = .ok (.iconst 0, 1) := dk_3 (dk_at dksX1_pull_2 7 rfl rfl)
theorem dX1_pull_55 : decode cX1_pull 55 = .ok (.istore 4, 2) := dk_54 4 (dk_at dksX1_pull_2 8 rfl rfl)
theorem dX1_pull_57 : decode cX1_pull 57 = .ok (.iload 4, 2) := dk_21 4 (dk_at dksX1_pull_2 10 rfl rfl)
theorem dX1_pull_59 : decode cX1_pull 59 = .ok (.ifCond .eq 10, 3) := dk_153 0 10 (dk_at dksX1_pull_2 12 rfl rfl)
theorem dX1_pull_62 : decode cX1_pull 62 = .ok (.aload_n 1, 1) := dk_43 (dk_at dksX1_pull_2 15 rfl rfl)
theorem dX1_pull_63 : decode cX1_pull 63 = .ok (.getfield 61, 3) := dk_180 0 61 (dk_at dksX1_pull_2 16 rfl rfl)
theorem dX1_pull_66 : decode cX1_pull 66 = .ok (.goto 7, 3) := dk_167 0 7 (dk_at dksX1_pull_2 19 rfl rfl)
theorem dX1_pull_69 : decode cX1_pull 69 = .ok (.aload_n 1, 1) := dk_43 (dk_at dksX1_pull_2 22 rfl rfl)
theorem dX1_pull_70 : decode cX1_pull 70 = .ok (.getfield 64, 3) := dk_180 0 64 (dk_at dksX1_pull_3 0 rfl rfl)
theorem dX1_pull_73 : decode cX1_pull 73 = .ok (.astore 5, 2) := dk_58 5 (dk_at dksX1_pull_3 3 rfl rfl)
theorem dX1_pull_75 : decode cX1_pull 75 = .ok (.aload_n 1, 1) := dk_43 (dk_at dksX1_pull_3 5 rfl rfl)
theorem dX1_pull_76 : decode cX1_pull 76 = .ok (.aload 5, 2) := dk_25 5 (dk_at dksX1_pull_3 6 rfl rfl)
theorem dX1_pull_78 : decode cX1_pull 78 = .ok (.getfield 73, 3) := dk_180 0 73 (dk_at dksX1_pull_3 8 rfl rfl)
theorem dX1_pull_81 : decode cX1_pull 81 = .ok (.putfield 73, 3) := dk_181 0 73 (dk_at dksX1_pull_3 11 rfl rfl)
theorem dX1_pull_84 : decode cX1_pull 84 = .ok (.aload 5, 2) := dk_25 5 (dk_at dksX1_pull_3 14 rfl rfl)
theorem dX1_pull_86 : decode cX1_pull 86 = .ok (.bipush (-4), 2) := dk_16 252 (dk_at dksX1_pull_3 16 rfl rfl)
theorem dX1_pull_88 : decode cX1_pull 88 = .ok (.putfield 73, 3) := dk_181 0 73 (dk_at dksX1_pull_3 18 rfl rfl)
theorem dX1_pull_91 : decode cX1_pull 91 = .ok (.aload_n 0, 1) := dk_42 (dk_at dksX1_pull_3 21 rfl rfl)
theorem dX1_pull_92 : decode cX1_pull 92 = .ok (.aload 5, 2) := dk_25 5 (dk_at dksX1_pull_3 22 rfl rfl)
theorem dX1_pull_94 : decode cX1_pull 94 = .ok (.invokevirtual 129, 3) := dk_182 0 129 (dk_at dksX1_pull_4 0 rfl rfl)
theorem dX1_pull_97 : decode cX1_pull 97 = .ok (.return_, 1) := dk_177 (dk_at dksX1_pull_4 3 rfl rfl)
abbrev cX1_levelAbove : ByteArray := prog_8_method_25_code
def yX1_levelAbove : MethodName := ⟨RX1, "levelAbove", "(LDeadlineTree$Node;)I"⟩
def dkwX1_levelAbove_2 : List UInt8 := [182, 0, 165, 4, 172, 25, 5, 58, 4, 25, 5, 28, 29, 182, 0, 110, 58, 5, 167, 255, 213, 3, 172]
abbrev dktX1_levelAbove_2 : List UInt8 := dkwX1_levelAbove_2 ++ []
def dkwX1_levelAbove_1 : List UInt8 := [165, 0, 43, 25, 5, 182, 0, 159, 153, 0, 19, 42, 25, 4, 25, 5, 42, 25, 5, 182, 0, 162]
abbrev dktX1_levelAbove_1 : List UInt8 := dkwX1_levelAbove_1 ++ dktX1_levelAbove_2
def dkwX1_levelAbove_0 : List UInt8 := [43, 180, 0, 67, 61, 43, 180, 0, 70, 62, 1, 58, 4, 42, 180, 0, 53, 58, 5, 25, 5, 43]
abbrev dktX1_levelAbove_0 : List UInt8 := dkwX1_levelAbove_0 ++ dktX1_levelAbove_1
theorem dksX1_levelAbove_0 : cX1_levelAbove.data.toList.drop 0 = dktX1_levelAbove_0 := by decide +kernel
theorem dksX1_levelAbove_1 : cX1_levelAbove.data.toList.drop 22 = dktX1_levelAbove_1 := dk_seg dksX1_levelAbove_0 22 rfl rfl
theorem dksX1_levelAbove_2 : cX1_levelAbove.data.toList.drop 44 = dktX1_levelAbove_2 := dk_seg dksX1_levelAbove_1 22 rfl rfl
theorem dX1_levelAbove_0 : decode cX1_levelAbove 0 = .ok (.aload_n 1, 1) := dk_43 (dk_at dksX1_levelAbove_0 0 rfl rfl)
theorem dX1_levelAbove_1 : decode cX1_levelAbove 1 = .ok (.getfield 67, 3) := dk_180 0 67 (dk_at dksX1_levelAbove_0 1 rfl rfl)
theorem dX1_levelAbove_4 : decode cX1_levelAbove 4 = .ok (.istore_n 2, 1) := dk_61 (dk_at dksX1_levelAbove_0 4 rfl rfl)
theorem dX1_levelAbove_5 : decode cX1_levelAbove 5 = .ok (.aload_n 1, 1) := dk_43 (dk_at dksX1_levelAbove_0 5 rfl rfl)
theorem dX1_levelAbove_6 : decode cX1_levelAbove 6 = .ok (.getfield 70, 3) := dk_180 0 70 (dk_at dksX1_levelAbove_0 6 rfl rfl)
theorem dX1_levelAbove_9 : decode cX1_levelAbove 9 = .ok (.istore_n 3, 1) := dk_62 (dk_at dksX1_levelAbove_0 9 rfl rfl)
theorem dX1_levelAbove_10 : decode cX1_levelAbove 10 = .ok (.aconst_null, 1) := dk_1 (dk_at dksX1_levelAbove_0 10 rfl rfl)
theorem dX1_levelAbove_11 : decode cX1_levelAbove 11 = .ok (.astore 4, 2) := dk_58 4 (dk_at dksX1_levelAbove_0 11 rfl rfl)
theorem dX1_levelAbove_13 : decode cX1_levelAbove 13 = .ok (.aload_n 0, 1) := dk_42 (dk_at dksX1_levelAbove_0 13 rfl rfl)
theorem dX1_levelAbove_14 : decode cX1_levelAbove 14 = .ok (.getfield 53, 3) := dk_180 0 53 (dk_at dksX1_levelAbove_0 14 rfl rfl)
theorem dX1_levelAbove_17 : decode cX1_levelAbove 17 = .ok (.astore 5, 2) := dk_58 5 (dk_at dksX1_levelAbove_0 17 rfl rfl)
theorem dX1_levelAbove_19 : decode cX1_levelAbove 19 = .ok (.aload 5, 2) := dk_25 5 (dk_at dksX1_levelAbove_0 19 rfl rfl)
theorem dX1_levelAbove_21 : decode cX1_levelAbove 21 = .ok (.aload_n 1, 1) := dk_43 (dk_at dksX1_levelAbove_0 21 rfl rfl)
theorem dX1_levelAbove_22 : decode cX1_levelAbove 22 = .ok (.if_acmp .eq 43, 3) := dk_165 0 43 (dk_at dksX1_levelAbove_1 0 rfl rfl)
theorem dX1_levelAbove_25 : decode cX1_levelAbove 25 = .ok (.aload 5, 2) := dk_25 5 (dk_at dksX1_levelAbove_1 3 rfl rfl)
theorem dX1_levelAbove_27 : decode cX1_levelAbove 27 = .ok (.invokevirtual 159, 3) := dk_182 0 159 (dk_at dksX1_levelAbove_1 5 rfl rfl)
theorem dX1_levelAbove_30 : decode cX1_levelAbove 30 = .ok (.ifCond .eq 19, 3) := dk_153 0 19 (dk_at dksX1_levelAbove_1 8 rfl rfl)
theorem dX1_levelAbove_33 : decode cX1_levelAbove 33 = .ok (.aload_n 0, 1) := dk_42 (dk_at dksX1_levelAbove_1 11 rfl rfl)
theorem dX1_levelAbove_34 : decode cX1_levelAbove 34 = .ok (.aload 4, 2) := dk_25 4 (dk_at dksX1_levelAbove_1 12 rfl rfl)
theorem dX1_levelAbove_36 : decode cX1_levelAbove 36 = .ok (.aload 5, 2) := dk_25 5 (dk_at dksX1_levelAbove_1 14 rfl rfl)
theorem dX1_levelAbove_38 : decode cX1_levelAbove 38 = .ok (.aload_n 0, 1) := dk_42 (dk_at dksX1_levelAbove_1 16 rfl rfl)
theorem dX1_levelAbove_39 : decode cX1_levelAbove 39 = .ok (.aload 5, 2) := dk_25 5 (dk_at dksX1_levelAbove_1 17 rfl rfl)
theorem dX1_levelAbove_41 : decode cX1_levelAbove 41 = .ok (.invokevirtual 162, 3) := dk_182 0 162 (dk_at dksX1_levelAbove_1 19 rfl rfl)
theorem dX1_levelAbove_44 : decode cX1_levelAbove 44 = .ok (.invokevirtual 165, 3) := dk_182 0 165 (dk_at dksX1_levelAbove_2 0 rfl rfl)
theorem dX1_levelAbove_47 : decode cX1_levelAbove 47 = .ok (.iconst 1, 1) := dk_4 (dk_at dksX1_levelAbove_2 3 rfl rfl)
theorem dX1_levelAbove_48 : decode cX1_levelAbove 48 = .ok (.ireturn, 1) := dk_172 (dk_at dksX1_levelAbove_2 4 rfl rfl)
theorem dX1_levelAbove_49 : decode cX1_levelAbove 49 = .ok (.aload 5, 2) := dk_25 5 (dk_at dksX1_levelAbove_2 5 rfl rfl)
theorem dX1_levelAbove_51 : decode cX1_levelAbove 51 = .ok (.astore 4, 2) := dk_58 4 (dk_at dksX1_levelAbove_2 7 rfl rfl)
theorem dX1_levelAbove_53 : decode cX1_levelAbove 53 = .ok (.aload 5, 2) := dk_25 5 (dk_at dksX1_levelAbove_2 9 rfl rfl)
theorem dX1_levelAbove_55 : decode cX1_levelAbove 55 = .ok (.iload_n 2, 1) := dk_28 (dk_at dksX1_levelAbove_2 11 rfl rfl)
theorem dX1_levelAbove_56 : decode cX1_levelAbove 56 = .ok (.iload_n 3, 1) := dk_29 (dk_at dksX1_levelAbove_2 12 rfl rfl)
theorem dX1_levelAbove_57 : decode cX1_levelAbove 57 = .ok (.invokevirtual 110, 3) := dk_182 0 110 (dk_at dksX1_levelAbove_2 13 rfl rfl)
theorem dX1_levelAbove_60 : decode cX1_levelAbove 60 = .ok (.astore 5, 2) := dk_58 5 (dk_at dksX1_levelAbove_2 16 rfl rfl)
theorem dX1_levelAbove_62 : decode cX1_levelAbove 62 = .ok (.goto (-43), 3) := dk_167 255 213 (dk_at dksX1_levelAbove_2 18 rfl rfl)
theorem dX1_levelAbove_65 : decode cX1_levelAbove 65 = .ok (.iconst 0, 1) := dk_3 (dk_at dksX1_levelAbove_2 21 rfl rfl)
theorem dX1_levelAbove_66 : decode cX1_levelAbove 66 = .ok (.ireturn, 1) := dk_172 (dk_at dksX1_levelAbove_2 22 rfl rfl)
abbrev cX1_delay : ByteArray := prog_8_method_26_code
def yX1_delay : MethodName := ⟨RX1, "delay", "(II)V"⟩
def dkwX1_delay_0 : List UInt8 := [42, 27, 182, 0, 187, 42, 180, 0, 28, 27, 28, 145, 84, 42, 42, 180, 0, 53, 27, 182, 0, 121, 177]
abbrev dktX1_delay_0 : List UInt8 := dkwX1_delay_0 ++ []
theorem dksX1_delay_0 : cX1_delay.data.toList.drop 0 = dktX1_delay_0 := by decide +kernel
theorem dX1_delay_0 : decode cX1_delay 0 = .ok (.aload_n 0, 1) := dk_42 (dk_at dksX1_delay_0 0 rfl rfl)
theorem dX1_delay_1 : decode cX1_delay 1 = .ok (.iload_n 1, 1) := dk_27 (dk_at dksX1_delay_0 1 rfl rfl)
theorem dX1_delay_2 : decode cX1_delay 2 = .ok (.invokevirtual 187, 3) := dk_182 0 187 (dk_at dksX1_delay_0 2 rfl rfl)
theorem dX1_delay_5 : decode cX1_delay 5 = .ok (.aload_n 0, 1) := dk_42 (dk_at dksX1_delay_0 5 rfl rfl)
theorem dX1_delay_6 : decode cX1_delay 6 = .ok (.getfield 28, 3) := dk_180 0 28 (dk_at dksX1_delay_0 6 rfl rfl)
theorem dX1_delay_9 : decode cX1_delay 9 = .ok (.iload_n 1, 1) := dk_27 (dk_at dksX1_delay_0 9 rfl rfl)
theorem dX1_delay_10 : decode cX1_delay 10 = .ok (.iload_n 2, 1) := dk_28 (dk_at dksX1_delay_0 10 rfl rfl)
theorem dX1_delay_11 : decode cX1_delay 11 = .ok (.i2b, 1) := dk_145 (dk_at dksX1_delay_0 11 rfl rfl)
theorem dX1_delay_12 : decode cX1_delay 12 = .ok (.bastore, 1) := dk_84 (dk_at dksX1_delay_0 12 rfl rfl)
theorem dX1_delay_13 : decode cX1_delay 13 = .ok (.aload_n 0, 1) := dk_42 (dk_at dksX1_delay_0 13 rfl rfl)
theorem dX1_delay_14 : decode cX1_delay 14 = .ok (.aload_n 0, 1) := dk_42 (dk_at dksX1_delay_0 14 rfl rfl)
theorem dX1_delay_15 : decode cX1_delay 15 = .ok (.getfield 53, 3) := dk_180 0 53 (dk_at dksX1_delay_0 15 rfl rfl)
theorem dX1_delay_18 : decode cX1_delay 18 = .ok (.iload_n 1, 1) := dk_27 (dk_at dksX1_delay_0 18 rfl rfl)
theorem dX1_delay_19 : decode cX1_delay 19 = .ok (.invokevirtual 121, 3) := dk_182 0 121 (dk_at dksX1_delay_0 19 rfl rfl)
theorem dX1_delay_22 : decode cX1_delay 22 = .ok (.return_, 1) := dk_177 (dk_at dksX1_delay_0 22 rfl rfl)
abbrev cX1_levelAll : ByteArray := prog_8_method_21_code
def yX1_levelAll : MethodName := ⟨RX1, "levelAll", "()I"⟩
def dkwX1_levelAll_0 : List UInt8 := [42, 42, 42, 180, 0, 53, 182, 0, 162, 181, 0, 53, 42, 42, 180, 0, 53, 182, 0, 169, 172]
abbrev dktX1_levelAll_0 : List UInt8 := dkwX1_levelAll_0 ++ []
theorem dksX1_levelAll_0 : cX1_levelAll.data.toList.drop 0 = dktX1_levelAll_0 := by decide +kernel
theorem dX1_levelAll_0 : decode cX1_levelAll 0 = .ok (.aload_n 0, 1) := dk_42 (dk_at dksX1_levelAll_0 0 rfl rfl)
theorem dX1_levelAll_1 : decode cX1_levelAll 1 = .ok (.aload_n 0, 1) := dk_42 (dk_at dksX1_levelAll_0 1 rfl rfl)
theorem dX1_levelAll_2 : decode cX1_levelAll 2 = .ok (.aload_n 0, 1) := dk_42 (dk_at dksX1_levelAll_0 2 rfl rfl)
theorem dX1_levelAll_3 : decode cX1_levelAll 3 = .ok (.getfield 53, 3) := dk_180 0 53 (dk_at dksX1_levelAll_0 3 rfl rfl)
theorem dX1_levelAll_6 : decode cX1_levelAll 6 = .ok (.invokevirtual 162, 3) := dk_182 0 162 (dk_at dksX1_levelAll_0 6 rfl rfl)
theorem dX1_levelAll_9 : decode cX1_levelAll 9 = .ok (.putfield 53, 3) := dk_181 0 53 (dk_at dksX1_levelAll_0 9 rfl rfl)
theorem dX1_levelAll_12 : decode cX1_levelAll 12 = .ok (.aload_n 0, 1) := dk_42 (dk_at dksX1_levelAll_0 12 rfl rfl)
theorem dX1_levelAll_13 : decode cX1_levelAll 13 = .ok (.aload_n 0, 1) := dk_42 (dk_at dksX1_levelAll_0 13 rfl rfl)
theorem dX1_levelAll_14 : decode cX1_levelAll 14 = .ok (.getfield 53, 3) := dk_180 0 53 (dk_at dksX1_levelAll_0 14 rfl rfl)
theorem dX1_levelAll_17 : decode cX1_levelAll 17 = .ok (.invokevirtual 169, 3) := dk_182 0 169 (dk_at dksX1_levelAll_0 17 rfl rfl)
theorem dX1_levelAll_20 : decode cX1_levelAll 20 = .ok (.ireturn, 1) := dk_172 (dk_at dksX1_levelAll_0 20 rfl rfl)
abbrev cX1_deepest : ByteArray := prog_8_method_22_code
def yX1_deepest : MethodName := ⟨RX1, "deepest", "(LDeadlineTree$Node;)I"⟩
def dkwX1_deepest_1 : List UInt8 := [180, 0, 64, 182, 0, 169, 184, 0, 172, 96, 172]
abbrev dktX1_deepest_1 : List UInt8 := dkwX1_deepest_1 ++ []
def dkwX1_deepest_0 : List UInt8 := [43, 182, 0, 140, 153, 0, 7, 3, 167, 0, 24, 4, 42, 43, 180, 0, 61, 182, 0, 169, 42, 43]
abbrev dktX1_deepest_0 : List UInt8 := dkwX1_deepest_0 ++ dktX1_deepest_1
theorem dksX1_deepest_0 : cX1_deepest.data.toList.drop 0 = dktX1_deepest_0 := by decide +kernel
theorem dksX1_deepest_1 : cX1_deepest.data.toList.drop 22 = dktX1_deepest_1 := dk_seg dksX1_deepest_0 22 rfl rfl
theorem dX1_deepest_0 : decode cX1_deepest 0 = .ok (.aload_n 1, 1) := dk_43 (dk_at dksX1_deepest_0 0 rfl rfl)
theorem dX1_deepest_1 : decode cX1_deepest 1 = .ok (.invokevirtual 140, 3) := dk_182 0 140 (dk_at dksX1_deepest_0 1 rfl rfl)
theorem dX1_deepest_4 : decode cX1_deepest 4 = .ok (.ifCond .eq 7, 3) := dk_153 0 7 (dk_at dksX1_deepest_0 4 rfl rfl)
theorem dX1_deepest_7 : decode cX1_deepest 7 = .ok (.iconst 0, 1) := dk_3 (dk_at dksX1_deepest_0 7 rfl rfl)
theorem dX1_deepest_8 : decode cX1_deepest 8 = .ok (.goto 24, 3) := dk_167 0 24 (dk_at dksX1_deepest_0 8 rfl rfl)
theorem dX1_deepest_11 : decode cX1_deepest 11 = .ok (.iconst 1, 1) := dk_4 (dk_at dksX1_deepest_0 11 rfl rfl)
theorem dX1_deepest_12 : decode cX1_deepest 12 = .ok (.aload_n 0, 1) := dk_42 (dk_at dksX1_deepest_0 12 rfl rfl)
theorem dX1_deepest_13 : decode cX1_deepest 13 = .ok (.aload_n 1, 1) := dk_43 (dk_at dksX1_deepest_0 13 rfl rfl)
theorem dX1_deepest_14 : decode cX1_deepest 14 = .ok (.getfield 61, 3) := dk_180 0 61 (dk_at dksX1_deepest_0 14 rfl rfl)
theorem dX1_deepest_17 : decode cX1_deepest 17 = .ok (.invokevirtual 169, 3) := dk_182 0 169 (dk_at dksX1_deepest_0 17 rfl rfl)
theorem dX1_deepest_20 : decode cX1_deepest 20 = .ok (.aload_n 0, 1) := dk_42 (dk_at dksX1_deepest_0 20 rfl rfl)
theorem dX1_deepest_21 : decode cX1_deepest 21 = .ok (.aload_n 1, 1) := dk_43 (dk_at dksX1_deepest_0 21 rfl rfl)
theorem dX1_deepest_22 : decode cX1_deepest 22 = .ok (.getfield 64, 3) := dk_180 0 64 (dk_at dksX1_deepest_1 0 rfl rfl)
theorem dX1_deepest_25 : decode cX1_deepest 25 = .ok (.invokevirtual 169, 3) := dk_182 0 169 (dk_at dksX1_deepest_1 3 rfl rfl)
theorem dX1_deepest_28 : decode cX1_deepest 28 = .ok (.invokestatic 172, 3) := dk_184 0 172 (dk_at dksX1_deepest_1 6 rfl rfl)
theorem dX1_deepest_31 : decode cX1_deepest 31 = .ok (.iadd, 1) := dk_96 (dk_at dksX1_deepest_1 9 rfl rfl)
theorem dX1_deepest_32 : decode cX1_deepest 32 = .ok (.ireturn, 1) := dk_172 (dk_at dksX1_deepest_1 10 rfl rfl)
theorem q71 : (Jvm.Cond.initialized "DeadlineTree$State") ∈ lw_all := lw_g (lw_at lw_m1 2 rfl) rfl
theorem q101 : (Jvm.Cond.instantiable "DeadlineTree$State" (13 : Nat)) ∈ lw_all := lw_g (lw_at lw_m1 32 rfl) rfl
theorem q103 : (Jvm.Cond.instanceMethod ({ cls := "DeadlineTree$State", name := "<init>", desc := "(LDeadlineTree;)V" } : Jvm.MethodName)) ∈ lw_all := lw_g (lw_at lw_m1 34 rfl) rfl
theorem q104 : (Jvm.Cond.code ({ cls := "DeadlineTree$State", name := "<init>", desc := "(LDeadlineTree;)V" } : Jvm.MethodName) prog_8_method_1_code (3 : Nat) (Option.none : Option Jvm.ClassFile.FieldType)) ∈ lw_all := lw_g (lw_at lw_m1 35 rfl) rfl
theorem q105 : (Jvm.Cond.methodLink "DeadlineTree$State" (9 : Nat) ({ cls := "java/lang/Object", name := "<init>", desc := "()V" } : Jvm.MethodName)) ∈ lw_all := lw_g (lw_at lw_m1 36 rfl) rfl
theorem q106 : (Jvm.Cond.classLink "DeadlineTree$State" (15 : Nat) "DeadlineTree$Node") ∈ lw_all := lw_g (lw_at lw_m1 37 rfl) rfl
theorem q109 : (Jvm.Cond.methodLink "DeadlineTree$State" (40 : Nat) ({ cls := "DeadlineTree$Node", name := "<init>", desc := "(I)V" } : Jvm.MethodName)) ∈ lw_all := lw_g (lw_at lw_m1 40 rfl) rfl
theorem q114 : (Jvm.Cond.fieldLinkNest "DeadlineTree$State" (43 : Nat) "DeadlineTree$Node" "index" "I" "DeadlineTree") ∈ lw_tbl := lw_at lw_m1 45 rfl
theorem q116 : (Jvm.Cond.fieldLinkNest "DeadlineTree$State" (61 : Nat) "DeadlineTree$Node" "left" "LDeadlineTree$Node;" "DeadlineTree") ∈ lw_tbl := lw_at lw_m1 47 rfl
theorem q118 : (Jvm.Cond.fieldLinkNest "DeadlineTree$State" (64 : Nat) "DeadlineTree$Node" "right" "LDeadlineTree$Node;" "DeadlineTree") ∈ lw_tbl := lw_at lw_m1 49 rfl
theorem q122 : (Jvm.Cond.fieldLinkNest "DeadlineTree$State" (67 : Nat) "DeadlineTree$Node" "start" "I" "DeadlineTree") ∈ lw_tbl := lw_at lw_m1 53 rfl
theorem q125 : (Jvm.Cond.fieldLinkNest "DeadlineTree$State" (70 : Nat) "DeadlineTree$Node" "number" "I" "DeadlineTree") ∈ lw_tbl := lw_at lw_m1 56 rfl
theorem q128 : (Jvm.Cond.fieldLinkNest "DeadlineTree$State" (73 : Nat) "DeadlineTree$Node" "hold" "I" "DeadlineTree") ∈ lw_tbl := lw_at lw_m1 59 rfl
theorem q129 : (Jvm.Cond.fieldLinkNest "DeadlineTree$State" (76 : Nat) "DeadlineTree$Node" "leaves" "I" "DeadlineTree") ∈ lw_tbl := lw_at lw_m1 60 rfl
theorem q148 : (Jvm.Cond.fieldLink "DeadlineTree$State" (47 : Nat) "DeadlineTree$State" "there" "I") ∈ lw_all := lw_g (lw_at lw_m1 79 rfl) rfl
theorem q150 : (Jvm.Cond.fieldLink "DeadlineTree$State" (50 : Nat) "DeadlineTree$State" "taken" "I") ∈ lw_all := lw_g (lw_at lw_m1 81 rfl) rfl
theorem q151 : (Jvm.Cond.fieldLink "DeadlineTree$State" (53 : Nat) "DeadlineTree$State" "root" "LDeadlineTree$Node;") ∈ lw_all := lw_g (lw_at lw_m1 82 rfl) rfl
theorem q153 : (Jvm.Cond.fieldLink "DeadlineTree$State" (17 : Nat) "DeadlineTree$State" "nodes" "[LDeadlineTree$Node;") ∈ lw_all := lw_g (lw_at lw_m1 84 rfl) rfl
theorem q154 : (Jvm.Cond.fieldLink "DeadlineTree$State" (21 : Nat) "DeadlineTree$State" "of" "[B") ∈ lw_all := lw_g (lw_at lw_m1 85 rfl) rfl
theorem q156 : (Jvm.Cond.fieldLink "DeadlineTree$State" (25 : Nat) "DeadlineTree$State" "starts" "[B") ∈ lw_all := lw_g (lw_at lw_m1 87 rfl) rfl
theorem q158 : (Jvm.Cond.fieldLink "DeadlineTree$State" (28 : Nat) "DeadlineTree$State" "deadlines" "[B") ∈ lw_all := lw_g (lw_at lw_m1 89 rfl) rfl
theorem q160 : (Jvm.Cond.fieldLink "DeadlineTree$State" (31 : Nat) "DeadlineTree$State" "lengths" "[B") ∈ lw_all := lw_g (lw_at lw_m1 91 rfl) rfl
theorem q162 : (Jvm.Cond.fieldLink "DeadlineTree$State" (144 : Nat) "DeadlineTree$State" "gathered" "I") ∈ lw_all := lw_g (lw_at lw_m1 93 rfl) rfl
theorem q163 : (Jvm.Cond.fieldLink "DeadlineTree$State" (34 : Nat) "DeadlineTree$State" "row" "[B") ∈ lw_all := lw_g (lw_at lw_m1 94 rfl) rfl
theorem q164 : (Jvm.Cond.fieldLink "DeadlineTree$State" (137 : Nat) "DeadlineTree$State" "heldMany" "I") ∈ lw_all := lw_g (lw_at lw_m1 95 rfl) rfl
theorem q165 : (Jvm.Cond.fieldLink "DeadlineTree$State" (37 : Nat) "DeadlineTree$State" "held" "[B") ∈ lw_all := lw_g (lw_at lw_m1 96 rfl) rfl
theorem q166 : (Jvm.Cond.fieldLink "DeadlineTree$State" (3 : Nat) "DeadlineTree$State" "this$0" "LDeadlineTree;") ∈ lw_all := lw_g (lw_at lw_m1 97 rfl) rfl
theorem q167 : (Jvm.Cond.lays "DeadlineTree$State" "DeadlineTree$State" "there" "I") ∈ lw_all := lw_g (lw_at lw_m1 98 rfl) rfl
theorem q168 : (Jvm.Cond.soleField "DeadlineTree$State" "there") ∈ lw_all := lw_g (lw_at lw_m1 99 rfl) rfl
theorem q169 : (Jvm.Cond.lays "DeadlineTree$State" "DeadlineTree$State" "taken" "I") ∈ lw_all := lw_g (lw_at lw_m1 100 rfl) rfl
theorem q170 : (Jvm.Cond.soleField "DeadlineTree$State" "taken") ∈ lw_all := lw_g (lw_at lw_m1 101 rfl) rfl
theorem q171 : (Jvm.Cond.lays "DeadlineTree$State" "DeadlineTree$State" "root" "LDeadlineTree$Node;") ∈ lw_all := lw_g (lw_at lw_m1 102 rfl) rfl
theorem q172 : (Jvm.Cond.soleField "DeadlineTree$State" "root") ∈ lw_all := lw_g (lw_at lw_m1 103 rfl) rfl
theorem q173 : (Jvm.Cond.laysFinal "DeadlineTree$State" "DeadlineTree$State" "nodes" "[LDeadlineTree$Node;") ∈ lw_all := lw_g (lw_at lw_m1 104 rfl) rfl
theorem q174 : (Jvm.Cond.soleField "DeadlineTree$State" "nodes") ∈ lw_all := lw_g (lw_at lw_m1 105 rfl) rfl
theorem q175 : (Jvm.Cond.laysFinal "DeadlineTree$State" "DeadlineTree$State" "of" "[B") ∈ lw_all := lw_g (lw_at lw_m1 106 rfl) rfl
theorem q176 : (Jvm.Cond.soleField "DeadlineTree$State" "of") ∈ lw_all := lw_g (lw_at lw_m1 107 rfl) rfl
theorem q177 : (Jvm.Cond.laysFinal "DeadlineTree$State" "DeadlineTree$State" "starts" "[B") ∈ lw_all := lw_g (lw_at lw_m1 108 rfl) rfl
theorem q178 : (Jvm.Cond.soleField "DeadlineTree$State" "starts") ∈ lw_all := lw_g (lw_at lw_m1 109 rfl) rfl
theorem q179 : (Jvm.Cond.laysFinal "DeadlineTree$State" "DeadlineTree$State" "deadlines" "[B") ∈ lw_all := lw_g (lw_at lw_m1 110 rfl) rfl
theorem q180 : (Jvm.Cond.soleField "DeadlineTree$State" "deadlines") ∈ lw_all := lw_g (lw_at lw_m1 111 rfl) rfl
theorem q181 : (Jvm.Cond.laysFinal "DeadlineTree$State" "DeadlineTree$State" "lengths" "[B") ∈ lw_all := lw_g (lw_at lw_m1 112 rfl) rfl
theorem q182 : (Jvm.Cond.soleField "DeadlineTree$State" "lengths") ∈ lw_all := lw_g (lw_at lw_m1 113 rfl) rfl
theorem q183 : (Jvm.Cond.lays "DeadlineTree$State" "DeadlineTree$State" "gathered" "I") ∈ lw_all := lw_g (lw_at lw_m1 114 rfl) rfl
theorem q184 : (Jvm.Cond.soleField "DeadlineTree$State" "gathered") ∈ lw_all := lw_g (lw_at lw_m1 115 rfl) rfl
theorem q185 : (Jvm.Cond.laysFinal "DeadlineTree$State" "DeadlineTree$State" "row" "[B") ∈ lw_all := lw_g (lw_at lw_m1 116 rfl) rfl
theorem q186 : (Jvm.Cond.soleField "DeadlineTree$State" "row") ∈ lw_all := lw_g (lw_at lw_m1 117 rfl) rfl
theorem q187 : (Jvm.Cond.lays "DeadlineTree$State" "DeadlineTree$State" "heldMany" "I") ∈ lw_all := lw_g (lw_at lw_m1 118 rfl) rfl
theorem q188 : (Jvm.Cond.soleField "DeadlineTree$State" "heldMany") ∈ lw_all := lw_g (lw_at lw_m1 119 rfl) rfl
theorem q189 : (Jvm.Cond.laysFinal "DeadlineTree$State" "DeadlineTree$State" "held" "[B") ∈ lw_all := lw_g (lw_at lw_m1 120 rfl) rfl
theorem q190 : (Jvm.Cond.soleField "DeadlineTree$State" "held") ∈ lw_all := lw_g (lw_at lw_m1 121 rfl) rfl
theorem q191 : (Jvm.Cond.laysFinal "DeadlineTree$State" "DeadlineTree$State" "this$0" "LDeadlineTree;") ∈ lw_all := lw_g (lw_at lw_m1 122 rfl) rfl
theorem q192 : (Jvm.Cond.soleField "DeadlineTree$State" "this$0") ∈ lw_all := lw_g (lw_at lw_m1 123 rfl) rfl
theorem q193 : (Jvm.Cond.superclass "DeadlineTree$State" "java/lang/Object") ∈ lw_all := lw_g (lw_at lw_m1 124 rfl) rfl
theorem q292 : (Jvm.Cond.instanceMethod ({ cls := "DeadlineTree$State", name := "clear", desc := "()V" } : Jvm.MethodName)) ∈ lw_all := lw_g (lw_at lw_m1 223 rfl) rfl
theorem q293 : (Jvm.Cond.selects "DeadlineTree$State" ({ cls := "DeadlineTree$State", name := "clear", desc := "()V" } : Jvm.MethodName) ({ cls := "DeadlineTree$State", name := "clear", desc := "()V" } : Jvm.MethodName)) ∈ lw_all := lw_g (lw_at lw_m1 224 rfl) rfl
theorem q294 : (Jvm.Cond.code ({ cls := "DeadlineTree$State", name := "clear", desc := "()V" } : Jvm.MethodName) prog_8_method_4_code (1 : Nat) (Option.none : Option Jvm.ClassFile.FieldType)) ∈ lw_all := lw_g (lw_at lw_m1 225 rfl) rfl
theorem q397 : (Jvm.Cond.instanceMethod ({ cls := "DeadlineTree$State", name := "many", desc := "()I" } : Jvm.MethodName)) ∈ lw_all := lw_g (lw_at lw_m2 88 rfl) rfl
theorem q398 : (Jvm.Cond.selects "DeadlineTree$State" ({ cls := "DeadlineTree$State", name := "many", desc := "()I" } : Jvm.MethodName) ({ cls := "DeadlineTree$State", name := "many", desc := "()I" } : Jvm.MethodName)) ∈ lw_all := lw_g (lw_at lw_m2 89 rfl) rfl
theorem q399 : (Jvm.Cond.code ({ cls := "DeadlineTree$State", name := "many", desc := "()I" } : Jvm.MethodName) prog_8_method_5_code (1 : Nat) (Option.some Jvm.ClassFile.FieldType.int)) ∈ lw_all := lw_g (lw_at lw_m2 90 rfl) rfl
theorem q400 : (Jvm.Cond.methodLink "DeadlineTree$State" (85 : Nat) ({ cls := "java/lang/Integer", name := "bitCount", desc := "(I)I" } : Jvm.MethodName)) ∈ lw_all := lw_g (lw_at lw_m2 91 rfl) rfl
theorem q407 : (Jvm.Cond.instanceMethod ({ cls := "DeadlineTree$State", name := "add", desc := "(IIII)I" } : Jvm.MethodName)) ∈ lw_all := lw_g (lw_at lw_m2 98 rfl) rfl
theorem q408 : (Jvm.Cond.selects "DeadlineTree$State" ({ cls := "DeadlineTree$State", name := "add", desc := "(IIII)I" } : Jvm.MethodName) ({ cls := "DeadlineTree$State", name := "add", desc := "(IIII)I" } : Jvm.MethodName)) ∈ lw_all := lw_g (lw_at lw_m2 99 rfl) rfl
theorem q409 : (Jvm.Cond.code ({ cls := "DeadlineTree$State", name := "add", desc := "(IIII)I" } : Jvm.MethodName) prog_8_method_23_code (11 : Nat) (Option.some Jvm.ClassFile.FieldType.int)) ∈ lw_all := lw_g (lw_at lw_m2 100 rfl) rfl
theorem q410 : (Jvm.Cond.methodLink "DeadlineTree$State" (177 : Nat) ({ cls := "DeadlineTree$State", name := "free", desc := "()I" } : Jvm.MethodName)) ∈ lw_all := lw_g (lw_at lw_m2 101 rfl) rfl
theorem q411 : (Jvm.Cond.instanceMethod ({ cls := "DeadlineTree$State", name := "free", desc := "()I" } : Jvm.MethodName)) ∈ lw_all := lw_g (lw_at lw_m2 102 rfl) rfl
theorem q412 : (Jvm.Cond.selects "DeadlineTree$State" ({ cls := "DeadlineTree$State", name := "free", desc := "()I" } : Jvm.MethodName) ({ cls := "DeadlineTree$State", name := "free", desc := "()I" } : Jvm.MethodName)) ∈ lw_all := lw_g (lw_at lw_m2 103 rfl) rfl
theorem q413 : (Jvm.Cond.code ({ cls := "DeadlineTree$State", name := "free", desc := "()I" } : Jvm.MethodName) prog_8_method_6_code (1 : Nat) (Option.some Jvm.ClassFile.FieldType.int)) ∈ lw_all := lw_g (lw_at lw_m2 104 rfl) rfl
theorem q414 : (Jvm.Cond.methodLink "DeadlineTree$State" (91 : Nat) ({ cls := "java/lang/Integer", name := "numberOfTrailingZeros", desc := "(I)I" } : Jvm.MethodName)) ∈ lw_all := lw_g (lw_at lw_m2 105 rfl) rfl
theorem q418 : (Jvm.Cond.methodLink "DeadlineTree$State" (153 : Nat) ({ cls := "DeadlineTree$State", name := "leaf", desc := "(I)LDeadlineTree$Node;" } : Jvm.MethodName)) ∈ lw_all := lw_g (lw_at lw_m2 109 rfl) rfl
theorem q419 : (Jvm.Cond.privateMethod ({ cls := "DeadlineTree$State", name := "leaf", desc := "(I)LDeadlineTree$Node;" } : Jvm.MethodName)) ∈ lw_tbl := lw_at lw_m2 110 rfl
theorem q420 : (Jvm.Cond.instanceMethod ({ cls := "DeadlineTree$State", name := "leaf", desc := "(I)LDeadlineTree$Node;" } : Jvm.MethodName)) ∈ lw_all := lw_g (lw_at lw_m2 111 rfl) rfl
theorem q421 : (Jvm.Cond.code ({ cls := "DeadlineTree$State", name := "leaf", desc := "(I)LDeadlineTree$Node;" } : Jvm.MethodName) prog_8_method_9_code (4 : Nat) (Option.some (Jvm.ClassFile.FieldType.object "DeadlineTree$Node"))) ∈ lw_all := lw_g (lw_at lw_m2 112 rfl) rfl
theorem q422 : (Jvm.Cond.methodLink "DeadlineTree$State" (140 : Nat) ({ cls := "DeadlineTree$Node", name := "isLeaf", desc := "()Z" } : Jvm.MethodName)) ∈ lw_all := lw_g (lw_at lw_m2 113 rfl) rfl
theorem q426 : (Jvm.Cond.methodLink "DeadlineTree$State" (118 : Nat) ({ cls := "DeadlineTree$State", name := "part", desc := "(LDeadlineTree$Node;I)LDeadlineTree$Node;" } : Jvm.MethodName)) ∈ lw_all := lw_g (lw_at lw_m2 117 rfl) rfl
theorem q427 : (Jvm.Cond.privateMethod ({ cls := "DeadlineTree$State", name := "part", desc := "(LDeadlineTree$Node;I)LDeadlineTree$Node;" } : Jvm.MethodName)) ∈ lw_tbl := lw_at lw_m2 118 rfl
theorem q428 : (Jvm.Cond.instanceMethod ({ cls := "DeadlineTree$State", name := "part", desc := "(LDeadlineTree$Node;I)LDeadlineTree$Node;" } : Jvm.MethodName)) ∈ lw_all := lw_g (lw_at lw_m2 119 rfl) rfl
theorem q429 : (Jvm.Cond.code ({ cls := "DeadlineTree$State", name := "part", desc := "(LDeadlineTree$Node;I)LDeadlineTree$Node;" } : Jvm.MethodName) prog_8_method_11_code (3 : Nat) (Option.some (Jvm.ClassFile.FieldType.object "DeadlineTree$Node"))) ∈ lw_all := lw_g (lw_at lw_m2 120 rfl) rfl
theorem q430 : (Jvm.Cond.methodLink "DeadlineTree$State" (110 : Nat) ({ cls := "DeadlineTree$Node", name := "part", desc := "(II)LDeadlineTree$Node;" } : Jvm.MethodName)) ∈ lw_all := lw_g (lw_at lw_m2 121 rfl) rfl
theorem q438 : (Jvm.Cond.methodLink "DeadlineTree$State" (181 : Nat) ({ cls := "DeadlineTree$Node", name := "goesLeft", desc := "(II)Z" } : Jvm.MethodName)) ∈ lw_all := lw_g (lw_at lw_m2 129 rfl) rfl
theorem q439 : (Jvm.Cond.methodLink "DeadlineTree$State" (121 : Nat) ({ cls := "DeadlineTree$State", name := "push", desc := "(LDeadlineTree$Node;I)V" } : Jvm.MethodName)) ∈ lw_all := lw_g (lw_at lw_m2 130 rfl) rfl
theorem q440 : (Jvm.Cond.privateMethod ({ cls := "DeadlineTree$State", name := "push", desc := "(LDeadlineTree$Node;I)V" } : Jvm.MethodName)) ∈ lw_tbl := lw_at lw_m2 131 rfl
theorem q441 : (Jvm.Cond.instanceMethod ({ cls := "DeadlineTree$State", name := "push", desc := "(LDeadlineTree$Node;I)V" } : Jvm.MethodName)) ∈ lw_all := lw_g (lw_at lw_m2 132 rfl) rfl
theorem q442 : (Jvm.Cond.code ({ cls := "DeadlineTree$State", name := "push", desc := "(LDeadlineTree$Node;I)V" } : Jvm.MethodName) prog_8_method_12_code (4 : Nat) (Option.none : Option Jvm.ClassFile.FieldType)) ∈ lw_all := lw_g (lw_at lw_m2 133 rfl) rfl
theorem q443 : (Jvm.Cond.methodLink "DeadlineTree$State" (114 : Nat) ({ cls := "DeadlineTree$State", name := "isDueAhead", desc := "(II)Z" } : Jvm.MethodName)) ∈ lw_all := lw_g (lw_at lw_m2 134 rfl) rfl
theorem q444 : (Jvm.Cond.instanceMethod ({ cls := "DeadlineTree$State", name := "isDueAhead", desc := "(II)Z" } : Jvm.MethodName)) ∈ lw_all := lw_g (lw_at lw_m2 135 rfl) rfl
theorem q445 : (Jvm.Cond.selects "DeadlineTree$State" ({ cls := "DeadlineTree$State", name := "isDueAhead", desc := "(II)Z" } : Jvm.MethodName) ({ cls := "DeadlineTree$State", name := "isDueAhead", desc := "(II)Z" } : Jvm.MethodName)) ∈ lw_all := lw_g (lw_at lw_m2 136 rfl) rfl
theorem q446 : (Jvm.Cond.code ({ cls := "DeadlineTree$State", name := "isDueAhead", desc := "(II)Z" } : Jvm.MethodName) prog_8_method_8_code (3 : Nat) (Option.some Jvm.ClassFile.FieldType.boolean)) ∈ lw_all := lw_g (lw_at lw_m2 137 rfl) rfl
theorem q447 : (Jvm.Cond.methodLink "DeadlineTree$State" (104 : Nat) ({ cls := "DeadlineTree$State", name := "rank", desc := "(I)I" } : Jvm.MethodName)) ∈ lw_all := lw_g (lw_at lw_m2 138 rfl) rfl
theorem q448 : (Jvm.Cond.instanceMethod ({ cls := "DeadlineTree$State", name := "rank", desc := "(I)I" } : Jvm.MethodName)) ∈ lw_all := lw_g (lw_at lw_m2 139 rfl) rfl
theorem q449 : (Jvm.Cond.selects "DeadlineTree$State" ({ cls := "DeadlineTree$State", name := "rank", desc := "(I)I" } : Jvm.MethodName) ({ cls := "DeadlineTree$State", name := "rank", desc := "(I)I" } : Jvm.MethodName)) ∈ lw_all := lw_g (lw_at lw_m2 140 rfl) rfl
theorem q450 : (Jvm.Cond.code ({ cls := "DeadlineTree$State", name := "rank", desc := "(I)I" } : Jvm.MethodName) prog_8_method_7_code (2 : Nat) (Option.some Jvm.ClassFile.FieldType.int)) ∈ lw_all := lw_g (lw_at lw_m2 141 rfl) rfl
theorem q451 : (Jvm.Cond.interfaceEntry "DeadlineTree$State" (98 : Nat)) ∈ lw_tbl := lw_at lw_m2 142 rfl
theorem q452 : (Jvm.Cond.methodLink "DeadlineTree$State" (98 : Nat) ({ cls := "DeadlineTree$Ranked", name := "rank", desc := "(II)I" } : Jvm.MethodName)) ∈ lw_all := lw_g (lw_at lw_m2 143 rfl) rfl
theorem q488 : (Jvm.Cond.interfaceEntry "DeadlineTree$State" (106 : Nat)) ∈ lw_tbl := lw_at lw_m2 179 rfl
theorem q489 : (Jvm.Cond.methodLink "DeadlineTree$State" (106 : Nat) ({ cls := "DeadlineTree$Ranked", name := "isAhead", desc := "(IIII)Z" } : Jvm.MethodName)) ∈ lw_all := lw_g (lw_at lw_m2 180 rfl) rfl
theorem q499 : (Jvm.Cond.methodLink "DeadlineTree$State" (184 : Nat) ({ cls := "DeadlineTree$State", name := "level", desc := "(II)I" } : Jvm.MethodName)) ∈ lw_all := lw_g (lw_at lw_m2 190 rfl) rfl
theorem q500 : (Jvm.Cond.privateMethod ({ cls := "DeadlineTree$State", name := "level", desc := "(II)I" } : Jvm.MethodName)) ∈ lw_tbl := lw_at lw_m2 191 rfl
theorem q501 : (Jvm.Cond.instanceMethod ({ cls := "DeadlineTree$State", name := "level", desc := "(II)I" } : Jvm.MethodName)) ∈ lw_all := lw_g (lw_at lw_m2 192 rfl) rfl
theorem q502 : (Jvm.Cond.code ({ cls := "DeadlineTree$State", name := "level", desc := "(II)I" } : Jvm.MethodName) prog_8_method_19_code (5 : Nat) (Option.some Jvm.ClassFile.FieldType.int)) ∈ lw_all := lw_g (lw_at lw_m2 193 rfl) rfl
theorem q503 : (Jvm.Cond.methodLink "DeadlineTree$State" (159 : Nat) ({ cls := "DeadlineTree$Node", name := "leans", desc := "()Z" } : Jvm.MethodName)) ∈ lw_all := lw_g (lw_at lw_m2 194 rfl) rfl
theorem q508 : (Jvm.Cond.methodLink "DeadlineTree$State" (162 : Nat) ({ cls := "DeadlineTree$State", name := "levelled", desc := "(LDeadlineTree$Node;)LDeadlineTree$Node;" } : Jvm.MethodName)) ∈ lw_all := lw_g (lw_at lw_m2 199 rfl) rfl
theorem q509 : (Jvm.Cond.privateMethod ({ cls := "DeadlineTree$State", name := "levelled", desc := "(LDeadlineTree$Node;)LDeadlineTree$Node;" } : Jvm.MethodName)) ∈ lw_tbl := lw_at lw_m2 200 rfl
theorem q510 : (Jvm.Cond.instanceMethod ({ cls := "DeadlineTree$State", name := "levelled", desc := "(LDeadlineTree$Node;)LDeadlineTree$Node;" } : Jvm.MethodName)) ∈ lw_all := lw_g (lw_at lw_m2 201 rfl) rfl
theorem q511 : (Jvm.Cond.code ({ cls := "DeadlineTree$State", name := "levelled", desc := "(LDeadlineTree$Node;)LDeadlineTree$Node;" } : Jvm.MethodName) prog_8_method_18_code (4 : Nat) (Option.some (Jvm.ClassFile.FieldType.object "DeadlineTree$Node"))) ∈ lw_all := lw_g (lw_at lw_m2 202 rfl) rfl
theorem q512 : (Jvm.Cond.methodLink "DeadlineTree$State" (147 : Nat) ({ cls := "DeadlineTree$State", name := "gather", desc := "(LDeadlineTree$Node;)V" } : Jvm.MethodName)) ∈ lw_all := lw_g (lw_at lw_m2 203 rfl) rfl
theorem q513 : (Jvm.Cond.privateMethod ({ cls := "DeadlineTree$State", name := "gather", desc := "(LDeadlineTree$Node;)V" } : Jvm.MethodName)) ∈ lw_tbl := lw_at lw_m2 204 rfl
theorem q514 : (Jvm.Cond.instanceMethod ({ cls := "DeadlineTree$State", name := "gather", desc := "(LDeadlineTree$Node;)V" } : Jvm.MethodName)) ∈ lw_all := lw_g (lw_at lw_m2 205 rfl) rfl
theorem q515 : (Jvm.Cond.code ({ cls := "DeadlineTree$State", name := "gather", desc := "(LDeadlineTree$Node;)V" } : Jvm.MethodName) prog_8_method_16_code (2 : Nat) (Option.none : Option Jvm.ClassFile.FieldType)) ∈ lw_all := lw_g (lw_at lw_m2 206 rfl) rfl
theorem q516 : (Jvm.Cond.methodLink "DeadlineTree$State" (150 : Nat) ({ cls := "DeadlineTree$State", name := "release", desc := "(LDeadlineTree$Node;)V" } : Jvm.MethodName)) ∈ lw_all := lw_g (lw_at lw_m2 207 rfl) rfl
theorem q517 : (Jvm.Cond.privateMethod ({ cls := "DeadlineTree$State", name := "release", desc := "(LDeadlineTree$Node;)V" } : Jvm.MethodName)) ∈ lw_tbl := lw_at lw_m2 208 rfl
theorem q518 : (Jvm.Cond.instanceMethod ({ cls := "DeadlineTree$State", name := "release", desc := "(LDeadlineTree$Node;)V" } : Jvm.MethodName)) ∈ lw_all := lw_g (lw_at lw_m2 209 rfl) rfl
theorem q519 : (Jvm.Cond.code ({ cls := "DeadlineTree$State", name := "release", desc := "(LDeadlineTree$Node;)V" } : Jvm.MethodName) prog_8_method_10_code (2 : Nat) (Option.none : Option Jvm.ClassFile.FieldType)) ∈ lw_all := lw_g (lw_at lw_m2 210 rfl) rfl
theorem q520 : (Jvm.Cond.methodLink "DeadlineTree$State" (156 : Nat) ({ cls := "DeadlineTree$State", name := "build", desc := "(II)LDeadlineTree$Node;" } : Jvm.MethodName)) ∈ lw_all := lw_g (lw_at lw_m2 211 rfl) rfl
theorem q521 : (Jvm.Cond.privateMethod ({ cls := "DeadlineTree$State", name := "build", desc := "(II)LDeadlineTree$Node;" } : Jvm.MethodName)) ∈ lw_tbl := lw_at lw_m2 212 rfl
theorem q522 : (Jvm.Cond.instanceMethod ({ cls := "DeadlineTree$State", name := "build", desc := "(II)LDeadlineTree$Node;" } : Jvm.MethodName)) ∈ lw_all := lw_g (lw_at lw_m2 213 rfl) rfl
theorem q523 : (Jvm.Cond.code ({ cls := "DeadlineTree$State", name := "build", desc := "(II)LDeadlineTree$Node;" } : Jvm.MethodName) prog_8_method_17_code (7 : Nat) (Option.some (Jvm.ClassFile.FieldType.object "DeadlineTree$Node"))) ∈ lw_all := lw_g (lw_at lw_m2 214 rfl) rfl
theorem q524 : (Jvm.Cond.methodLink "DeadlineTree$State" (165 : Nat) ({ cls := "DeadlineTree$State", name := "replace", desc := "(LDeadlineTree$Node;LDeadlineTree$Node;LDeadlineTree$Node;)V" } : Jvm.MethodName)) ∈ lw_all := lw_g (lw_at lw_m2 215 rfl) rfl
theorem q525 : (Jvm.Cond.privateMethod ({ cls := "DeadlineTree$State", name := "replace", desc := "(LDeadlineTree$Node;LDeadlineTree$Node;LDeadlineTree$Node;)V" } : Jvm.MethodName)) ∈ lw_tbl := lw_at lw_m2 216 rfl
theorem q526 : (Jvm.Cond.instanceMethod ({ cls := "DeadlineTree$State", name := "replace", desc := "(LDeadlineTree$Node;LDeadlineTree$Node;LDeadlineTree$Node;)V" } : Jvm.MethodName)) ∈ lw_all := lw_g (lw_at lw_m2 217 rfl) rfl
theorem q527 : (Jvm.Cond.code ({ cls := "DeadlineTree$State", name := "replace", desc := "(LDeadlineTree$Node;LDeadlineTree$Node;LDeadlineTree$Node;)V" } : Jvm.MethodName) prog_8_method_20_code (4 : Nat) (Option.none : Option Jvm.ClassFile.FieldType)) ∈ lw_all := lw_g (lw_at lw_m2 218 rfl) rfl
theorem q529 : (Jvm.Cond.instanceMethod ({ cls := "DeadlineTree$State", name := "copy", desc := "(LDeadlineTree$State;)V" } : Jvm.MethodName)) ∈ lw_all := lw_g (lw_at lw_m2 220 rfl) rfl
theorem q530 : (Jvm.Cond.selects "DeadlineTree$State" ({ cls := "DeadlineTree$State", name := "copy", desc := "(LDeadlineTree$State;)V" } : Jvm.MethodName) ({ cls := "DeadlineTree$State", name := "copy", desc := "(LDeadlineTree$State;)V" } : Jvm.MethodName)) ∈ lw_all := lw_g (lw_at lw_m2 221 rfl) rfl
theorem q531 : (Jvm.Cond.code ({ cls := "DeadlineTree$State", name := "copy", desc := "(LDeadlineTree$State;)V" } : Jvm.MethodName) prog_8_method_3_code (5 : Nat) (Option.none : Option Jvm.ClassFile.FieldType)) ∈ lw_all := lw_g (lw_at lw_m2 222 rfl) rfl
theorem q532 : (Jvm.Cond.methodLink "DeadlineTree$State" (57 : Nat) ({ cls := "DeadlineTree$State", name := "own", desc := "(LDeadlineTree$Node;)LDeadlineTree$Node;" } : Jvm.MethodName)) ∈ lw_all := lw_g (lw_at lw_m2 223 rfl) rfl
theorem q533 : (Jvm.Cond.privateMethod ({ cls := "DeadlineTree$State", name := "own", desc := "(LDeadlineTree$Node;)LDeadlineTree$Node;" } : Jvm.MethodName)) ∈ lw_tbl := lw_at lw_m2 224 rfl
theorem q534 : (Jvm.Cond.instanceMethod ({ cls := "DeadlineTree$State", name := "own", desc := "(LDeadlineTree$Node;)LDeadlineTree$Node;" } : Jvm.MethodName)) ∈ lw_all := lw_g (lw_at lw_m2 225 rfl) rfl
theorem q535 : (Jvm.Cond.code ({ cls := "DeadlineTree$State", name := "own", desc := "(LDeadlineTree$Node;)LDeadlineTree$Node;" } : Jvm.MethodName) prog_8_method_2_code (2 : Nat) (Option.some (Jvm.ClassFile.FieldType.object "DeadlineTree$Node"))) ∈ lw_all := lw_g (lw_at lw_m2 226 rfl) rfl
theorem q536 : (Jvm.Cond.methodLink "DeadlineTree$State" (79 : Nat) ({ cls := "java/lang/System", name := "arraycopy", desc := "(Ljava/lang/Object;ILjava/lang/Object;II)V" } : Jvm.MethodName)) ∈ lw_all := lw_g (lw_at lw_m2 227 rfl) rfl
theorem q540 : (Jvm.Cond.fieldLinkNest "DeadlineTree$State" (94 : Nat) "DeadlineTree" "kinds" "[LDeadlineTree$Ranked;" "DeadlineTree") ∈ lw_tbl := lw_at lw_m2 231 rfl
theorem q663 : (Jvm.Cond.instanceMethod ({ cls := "DeadlineTree$State", name := "cut", desc := "(I)I" } : Jvm.MethodName)) ∈ lw_all := lw_g (lw_at lw_m3 114 rfl) rfl
theorem q664 : (Jvm.Cond.selects "DeadlineTree$State" ({ cls := "DeadlineTree$State", name := "cut", desc := "(I)I" } : Jvm.MethodName) ({ cls := "DeadlineTree$State", name := "cut", desc := "(I)I" } : Jvm.MethodName)) ∈ lw_all := lw_g (lw_at lw_m3 115 rfl) rfl
theorem q665 : (Jvm.Cond.code ({ cls := "DeadlineTree$State", name := "cut", desc := "(I)I" } : Jvm.MethodName) prog_8_method_24_code (7 : Nat) (Option.some Jvm.ClassFile.FieldType.int)) ∈ lw_all := lw_g (lw_at lw_m3 116 rfl) rfl
theorem q666 : (Jvm.Cond.methodLink "DeadlineTree$State" (187 : Nat) ({ cls := "DeadlineTree$State", name := "vacate", desc := "(I)V" } : Jvm.MethodName)) ∈ lw_all := lw_g (lw_at lw_m3 117 rfl) rfl
theorem q667 : (Jvm.Cond.privateMethod ({ cls := "DeadlineTree$State", name := "vacate", desc := "(I)V" } : Jvm.MethodName)) ∈ lw_tbl := lw_at lw_m3 118 rfl
theorem q668 : (Jvm.Cond.instanceMethod ({ cls := "DeadlineTree$State", name := "vacate", desc := "(I)V" } : Jvm.MethodName)) ∈ lw_all := lw_g (lw_at lw_m3 119 rfl) rfl
theorem q669 : (Jvm.Cond.code ({ cls := "DeadlineTree$State", name := "vacate", desc := "(I)V" } : Jvm.MethodName) prog_8_method_15_code (3 : Nat) (Option.none : Option Jvm.ClassFile.FieldType)) ∈ lw_all := lw_g (lw_at lw_m3 120 rfl) rfl
theorem q670 : (Jvm.Cond.methodLink "DeadlineTree$State" (133 : Nat) ({ cls := "DeadlineTree$State", name := "holder", desc := "(I)LDeadlineTree$Node;" } : Jvm.MethodName)) ∈ lw_all := lw_g (lw_at lw_m3 121 rfl) rfl
theorem q671 : (Jvm.Cond.privateMethod ({ cls := "DeadlineTree$State", name := "holder", desc := "(I)LDeadlineTree$Node;" } : Jvm.MethodName)) ∈ lw_tbl := lw_at lw_m3 122 rfl
theorem q672 : (Jvm.Cond.instanceMethod ({ cls := "DeadlineTree$State", name := "holder", desc := "(I)LDeadlineTree$Node;" } : Jvm.MethodName)) ∈ lw_all := lw_g (lw_at lw_m3 123 rfl) rfl
theorem q673 : (Jvm.Cond.code ({ cls := "DeadlineTree$State", name := "holder", desc := "(I)LDeadlineTree$Node;" } : Jvm.MethodName) prog_8_method_14_code (3 : Nat) (Option.some (Jvm.ClassFile.FieldType.object "DeadlineTree$Node"))) ∈ lw_all := lw_g (lw_at lw_m3 124 rfl) rfl
theorem q674 : (Jvm.Cond.methodLink "DeadlineTree$State" (129 : Nat) ({ cls := "DeadlineTree$State", name := "pull", desc := "(LDeadlineTree$Node;)V" } : Jvm.MethodName)) ∈ lw_all := lw_g (lw_at lw_m3 125 rfl) rfl
theorem q675 : (Jvm.Cond.privateMethod ({ cls := "DeadlineTree$State", name := "pull", desc := "(LDeadlineTree$Node;)V" } : Jvm.MethodName)) ∈ lw_tbl := lw_at lw_m3 126 rfl
theorem q676 : (Jvm.Cond.instanceMethod ({ cls := "DeadlineTree$State", name := "pull", desc := "(LDeadlineTree$Node;)V" } : Jvm.MethodName)) ∈ lw_all := lw_g (lw_at lw_m3 127 rfl) rfl
theorem q677 : (Jvm.Cond.code ({ cls := "DeadlineTree$State", name := "pull", desc := "(LDeadlineTree$Node;)V" } : Jvm.MethodName) prog_8_method_13_code (6 : Nat) (Option.none : Option Jvm.ClassFile.FieldType)) ∈ lw_all := lw_g (lw_at lw_m3 128 rfl) rfl
theorem q678 : (Jvm.Cond.methodLinkNest "DeadlineTree$State" (125 : Nat) ({ cls := "DeadlineTree", name := "holdOf", desc := "(LDeadlineTree$Node;)I" } : Jvm.MethodName) "DeadlineTree") ∈ lw_tbl := lw_at lw_m3 129 rfl
theorem q681 : (Jvm.Cond.methodLink "DeadlineTree$State" (190 : Nat) ({ cls := "DeadlineTree$State", name := "levelAbove", desc := "(LDeadlineTree$Node;)I" } : Jvm.MethodName)) ∈ lw_all := lw_g (lw_at lw_m3 132 rfl) rfl
theorem q682 : (Jvm.Cond.privateMethod ({ cls := "DeadlineTree$State", name := "levelAbove", desc := "(LDeadlineTree$Node;)I" } : Jvm.MethodName)) ∈ lw_tbl := lw_at lw_m3 133 rfl
theorem q683 : (Jvm.Cond.instanceMethod ({ cls := "DeadlineTree$State", name := "levelAbove", desc := "(LDeadlineTree$Node;)I" } : Jvm.MethodName)) ∈ lw_all := lw_g (lw_at lw_m3 134 rfl) rfl
theorem q684 : (Jvm.Cond.code ({ cls := "DeadlineTree$State", name := "levelAbove", desc := "(LDeadlineTree$Node;)I" } : Jvm.MethodName) prog_8_method_25_code (6 : Nat) (Option.some Jvm.ClassFile.FieldType.int)) ∈ lw_all := lw_g (lw_at lw_m3 135 rfl) rfl
theorem q690 : (Jvm.Cond.instanceMethod ({ cls := "DeadlineTree$State", name := "delay", desc := "(II)V" } : Jvm.MethodName)) ∈ lw_all := lw_g (lw_at lw_m3 141 rfl) rfl
theorem q691 : (Jvm.Cond.selects "DeadlineTree$State" ({ cls := "DeadlineTree$State", name := "delay", desc := "(II)V" } : Jvm.MethodName) ({ cls := "DeadlineTree$State", name := "delay", desc := "(II)V" } : Jvm.MethodName)) ∈ lw_all := lw_g (lw_at lw_m3 142 rfl) rfl
theorem q692 : (Jvm.Cond.code ({ cls := "DeadlineTree$State", name := "delay", desc := "(II)V" } : Jvm.MethodName) prog_8_method_26_code (3 : Nat) (Option.none : Option Jvm.ClassFile.FieldType)) ∈ lw_all := lw_g (lw_at lw_m3 143 rfl) rfl
theorem q698 : (Jvm.Cond.instanceMethod ({ cls := "DeadlineTree$State", name := "levelAll", desc := "()I" } : Jvm.MethodName)) ∈ lw_all := lw_g (lw_at lw_m3 149 rfl) rfl
theorem q699 : (Jvm.Cond.selects "DeadlineTree$State" ({ cls := "DeadlineTree$State", name := "levelAll", desc := "()I" } : Jvm.MethodName) ({ cls := "DeadlineTree$State", name := "levelAll", desc := "()I" } : Jvm.MethodName)) ∈ lw_all := lw_g (lw_at lw_m3 150 rfl) rfl
theorem q700 : (Jvm.Cond.code ({ cls := "DeadlineTree$State", name := "levelAll", desc := "()I" } : Jvm.MethodName) prog_8_method_21_code (1 : Nat) (Option.some Jvm.ClassFile.FieldType.int)) ∈ lw_all := lw_g (lw_at lw_m3 151 rfl) rfl
theorem q701 : (Jvm.Cond.methodLink "DeadlineTree$State" (169 : Nat) ({ cls := "DeadlineTree$State", name := "deepest", desc := "(LDeadlineTree$Node;)I" } : Jvm.MethodName)) ∈ lw_all := lw_g (lw_at lw_m3 152 rfl) rfl
theorem q702 : (Jvm.Cond.instanceMethod ({ cls := "DeadlineTree$State", name := "deepest", desc := "(LDeadlineTree$Node;)I" } : Jvm.MethodName)) ∈ lw_all := lw_g (lw_at lw_m3 153 rfl) rfl
theorem q703 : (Jvm.Cond.selects "DeadlineTree$State" ({ cls := "DeadlineTree$State", name := "deepest", desc := "(LDeadlineTree$Node;)I" } : Jvm.MethodName) ({ cls := "DeadlineTree$State", name := "deepest", desc := "(LDeadlineTree$Node;)I" } : Jvm.MethodName)) ∈ lw_all := lw_g (lw_at lw_m3 154 rfl) rfl
theorem q704 : (Jvm.Cond.code ({ cls := "DeadlineTree$State", name := "deepest", desc := "(LDeadlineTree$Node;)I" } : Jvm.MethodName) prog_8_method_22_code (2 : Nat) (Option.some Jvm.ClassFile.FieldType.int)) ∈ lw_all := lw_g (lw_at lw_m3 155 rfl) rfl
theorem q705 : (Jvm.Cond.methodLink "DeadlineTree$State" (172 : Nat) ({ cls := "java/lang/Math", name := "max", desc := "(II)I" } : Jvm.MethodName)) ∈ lw_all := lw_g (lw_at lw_m3 156 rfl) rfl
theorem in_X1 : ∀ w ∈ wsX10, w ∈ lw_all := lw_in wsX10 [167, 169, 171, 173, 175, 177, 179, 181, 183, 185, 187, 189, 191] (by decide +kernel) (by decide +kernel)
