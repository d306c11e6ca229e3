/-! RowenTongueModel -/
set_option maxRecDepth 100000
def RX2 : String := "RowenTongueModel"
def TX2 : u_T := fun k => match k with
  | 0 => ("RowenTongueModel", "terms", "I", false)
  | 1 => ("RowenTongueModel", "kind", "[I", true)
  | 2 => ("RowenTongueModel", "which", "[I", true)
  | 3 => ("RowenTongueModel", "first", "[I", true)
  | 4 => ("RowenTongueModel", "second", "[I", true)
  | 5 => ("RowenTongueModel", "third", "[I", true)
  | 6 => ("RowenTongueModel", "weight", "[I", true)
  | 7 => ("RowenTongueModel", "errorAt", "I", false)
  | 8 => ("RowenTongueModel", "steps", "I", false)
  | 9 => ("RowenTongueModel", "result", "Ljava/lang/String;", false)
  | 10 => ("RowenTongueModel", "thrown", "I", false)
  | 11 => ("RowenTongueModel", "asks", "I", false)
  | 12 => ("RowenTongueModel", "wrong", "I", false)
  | 13 => ("RowenTongueModel", "places", "[I", true)
  | 14 => ("RowenTongueModel", "taken", "I", false)
  | 15 => ("RowenTongueModel", "isFar", "Z", false)
  | _ => ("RowenTongueModel", "stamp", "J", false)
def tyX2 : Nat → FieldType := fun k => match k with
  | 0 => .int
  | 1 => .array .int
  | 2 => .array .int
  | 3 => .array .int
  | 4 => .array .int
  | 5 => .array .int
  | 6 => .array .int
  | 7 => .int
  | 8 => .int
  | 9 => .object "java/lang/String"
  | 10 => .int
  | 11 => .int
  | 12 => .int
  | 13 => .array .int
  | 14 => .int
  | 15 => .boolean
  | _ => .long
abbrev wsX20 : List Cond := u_ws RX2 TX2 17
set_option maxRecDepth 100000 in
theorem nmX2 : ∀ a, a < 17 → ∀ b, b < 17 → a ≠ b → (TX2 a).2.1 ≠ (TX2 b).2.1 := by decide +kernel
set_option maxRecDepth 100000 in
theorem tyX2_ok : ∀ k, k < 17 → parseFieldDescriptor (TX2 k).2.2.1 = some (tyX2 k) := by decide +kernel
abbrev cX2_init : ByteArray := prog_45_method_1_code
def yX2_init : MethodName := ⟨RX2, "<init>", "()V"⟩
def dkwX2_init_3 : List UInt8 := [177]
abbrev dktX2_init_3 : List UInt8 := dkwX2_init_3 ++ []
def dkwX2_init_2 : List UInt8 := [188, 10, 181, 0, 25, 42, 2, 181, 0, 28, 42, 18, 32, 181, 0, 34, 42, 16, 120, 188, 10, 181, 0, 38]
abbrev dktX2_init_2 : List UInt8 := dkwX2_init_2 ++ dktX2_init_3
def dkwX2_init_1 : List UInt8 := [188, 10, 181, 0, 16, 42, 16, 120, 188, 10, 181, 0, 19, 42, 16, 120, 188, 10, 181, 0, 22, 42, 16, 120]
abbrev dktX2_init_1 : List UInt8 := dkwX2_init_1 ++ dktX2_init_2
def dkwX2_init_0 : List UInt8 := [42, 183, 0, 1, 42, 16, 120, 188, 10, 181, 0, 7, 42, 16, 120, 188, 10, 181, 0, 13, 42, 16, 120]
abbrev dktX2_init_0 : List UInt8 := dkwX2_init_0 ++ dktX2_init_1
theorem dksX2_init_0 : cX2_init.data.toList.drop 0 = dktX2_init_0 := by decide +kernel
theorem dksX2_init_1 : cX2_init.data.toList.drop 23 = dktX2_init_1 := dk_seg dksX2_init_0 23 rfl rfl
theorem dksX2_init_2 : cX2_init.data.toList.drop 47 = dktX2_init_2 := dk_seg dksX2_init_1 24 rfl rfl
theorem dksX2_init_3 : cX2_init.data.toList.drop 71 = dktX2_init_3 := dk_seg dksX2_init_2 24 rfl rfl
theorem dX2_init_0 : decode cX2_init 0 = .ok (.aload_n 0, 1) := dk_42 (dk_at dksX2_init_0 0 rfl rfl)
theorem dX2_init_1 : decode cX2_init 1 = .ok (.invokespecial 1, 3) := dk_183 0 1 (dk_at dksX2_init_0 1 rfl rfl)
theorem dX2_init_4 : decode cX2_init 4 = .ok (.aload_n 0, 1) := dk_42 (dk_at dksX2_init_0 4 rfl rfl)
theorem dX2_init_5 : decode cX2_init 5 = .ok (.bipush 120, 2) := dk_16 120 (dk_at dksX2_init_0 5 rfl rfl)
theorem dX2_init_7 : decode cX2_init 7 = .ok (.newarray .int, 2) := dk_188_10 (dk_at dksX2_init_0 7 rfl rfl)
theorem dX2_init_9 : decode cX2_init 9 = .ok (.putfield 7, 3) := dk_181 0 7 (dk_at dksX2_init_0 9 rfl rfl)
theorem dX2_init_12 : decode cX2_init 12 = .ok (.aload_n 0, 1) := dk_42 (dk_at dksX2_init_0 12 rfl rfl)
theorem dX2_init_13 : decode cX2_init 13 = .ok (.bipush 120, 2) := dk_16 120 (dk_at dksX2_init_0 13 rfl rfl)
theorem dX2_init_15 : decode cX2_init 15 = .ok (.newarray .int, 2) := dk_188_10 (dk_at dksX2_init_0 15 rfl rfl)
theorem dX2_init_17 : decode cX2_init 17 = .ok (.putfield 13, 3) := dk_181 0 13 (dk_at dksX2_init_0 17 rfl rfl)
theorem dX2_init_20 : decode cX2_init 20 = .ok (.aload_n 0, 1) := dk_42 (dk_at dksX2_init_0 20 rfl rfl)
theorem dX2_init_21 : decode cX2_init 21 = .ok (.bipush 120, 2) := dk_16 120 (dk_at dksX2_init_0 21 rfl rfl)
theorem dX2_init_23 : decode cX2_init 23 = .ok (.newarray .int, 2) := dk_188_10 (dk_at dksX2_init_1 0 rfl rfl)
theorem dX2_init_25 : decode cX2_init 25 = .ok (.putfield 16, 3) := dk_181 0 16 (dk_at dksX2_init_1 2 rfl rfl)
theorem dX2_init_28 : decode cX2_init 28 = .ok (.aload_n 0, 1) := dk_42 (dk_at dksX2_init_1 5 rfl rfl)
theorem dX2_init_29 : decode cX2_init 29 = .ok (.bipush 120, 2) := dk_16 120 (dk_at dksX2_init_1 6 rfl rfl)
theorem dX2_init_31 : decode cX2_init 31 = .ok (.newarray .int, 2) := dk_188_10 (dk_at dksX2_init_1 8 rfl rfl)
theorem dX2_init_33 : decode cX2_init 33 = .ok (.putfield 19, 3) := dk_181 0 19 (dk_at dksX2_init_1 10 rfl rfl)
theorem dX2_init_36 : decode cX2_init 36 = .ok (.aload_n 0, 1) := dk_42 (dk_at dksX2_init_1 13 rfl rfl)
theorem dX2_init_37 : decode cX2_init 37 = .ok (.bipush 120, 2) := dk_16 120 (dk_at dksX2_init_1 14 rfl rfl)
theorem dX2_init_39 : decode cX2_init 39 = .ok (.newarray .int, 2) := dk_188_10 (dk_at dksX2_init_1 16 rfl rfl)
theorem dX2_init_41 : decode cX2_init 41 = .ok (.putfield 22, 3) := dk_181 0 22 (dk_at dksX2_init_1 18 rfl rfl)
theorem dX2_init_44 : decode cX2_init 44 = .ok (.aload_n 0, 1) := dk_42 (dk_at dksX2_init_1 21 rfl rfl)
theorem dX2_init_45 : decode cX2_init 45 = .ok (.bipush 120, 2) := dk_16 120 (dk_at dksX2_init_1 22 rfl rfl)
theorem dX2_init_47 : decode cX2_init 47 = .ok (.newarray .int, 2) := dk_188_10 (dk_at dksX2_init_2 0 rfl rfl)
theorem dX2_init_49 : decode cX2_init 49 = .ok (.putfield 25, 3) := dk_181 0 25 (dk_at dksX2_init_2 2 rfl rfl)
theorem dX2_init_52 : decode cX2_init 52 = .ok (.aload_n 0, 1) := dk_42 (dk_at dksX2_init_2 5 rfl rfl)
theorem dX2_init_53 : decode cX2_init 53 = .ok (.iconst (-1), 1) := dk_2 (dk_at dksX2_init_2 6 rfl rfl)
theorem dX2_init_54 : decode cX2_init 54 = .ok (.putfield 28, 3) := dk_181 0 28 (dk_at dksX2_init_2 7 rfl rfl)
theorem dX2_init_57 : decode cX2_init 57 = .ok (.aload_n 0, 1) := dk_42 (dk_at dksX2_init_2 10 rfl rfl)
theorem dX2_init_58 : decode cX2_init 58 = .ok (.ldc 32, 2) := dk_18 32 (dk_at dksX2_init_2 11 rfl rfl)
theorem dX2_init_60 : decode cX2_init 60 = .ok (.putfield 34, 3) := dk_181 0 34 (dk_at dksX2_init_2 13 rfl rfl)
theorem dX2_init_63 : decode cX2_init 63 = .ok (.aload_n 0, 1) := dk_42 (dk_at dksX2_init_2 16 rfl rfl)
theorem dX2_init_64 : decode cX2_init 64 = .ok (.bipush 120, 2) := dk_16 120 (dk_at dksX2_init_2 17 rfl rfl)
theorem dX2_init_66 : decode cX2_init 66 = .ok (.newarray .int, 2) := dk_188_10 (dk_at dksX2_init_2 19 rfl rfl)
theorem dX2_init_68 : decode cX2_init 68 = .ok (.putfield 38, 3) := dk_181 0 38 (dk_at dksX2_init_2 21 rfl rfl)
theorem dX2_init_71 : decode cX2_init 71 = .ok (.return_, 1) := dk_177 (dk_at dksX2_init_3 0 rfl rfl)
abbrev cX2_thrown : ByteArray := prog_45_method_2_code
def yX2_thrown : MethodName := ⟨RX2, "thrown", "()I"⟩
theorem dX2_thrown_0 : decode cX2_thrown 0 = .ok (.aload_n 0, 1) := by decide +kernel
theorem dX2_thrown_1 : decode cX2_thrown 1 = .ok (.getfield 41, 3) := by decide +kernel
theorem dX2_thrown_4 : decode cX2_thrown 4 = .ok (.ireturn, 1) := by decide +kernel
abbrev cX2_leaf : ByteArray := prog_45_method_10_code
def yX2_leaf : MethodName := ⟨RX2, "leaf", "(II)I"⟩
def dkwX2_leaf_3 : List UInt8 := [27, 28, 2, 2, 2, 182, 0, 63, 167, 0, 4, 3, 172]
abbrev dktX2_leaf_3 : List UInt8 := dkwX2_leaf_3 ++ []
def dkwX2_leaf_2 : List UInt8 := [42, 29, 42, 180, 0, 44, 16, 120, 162, 0, 7, 4, 167, 0, 4, 3, 4, 182, 0, 59, 153, 0, 15, 42]
abbrev dktX2_leaf_2 : List UInt8 := dkwX2_leaf_2 ++ dktX2_leaf_3
def dkwX2_leaf_1 : List UInt8 := [184, 0, 47, 154, 0, 15, 27, 16, 6, 159, 0, 9, 27, 16, 15, 160, 0, 7, 4, 167, 0, 4, 3, 62]
abbrev dktX2_leaf_1 : List UInt8 := dkwX2_leaf_1 ++ dktX2_leaf_2
def dkwX2_leaf_0 : List UInt8 := [27, 154, 0, 14, 28, 16, 157, 16, 99, 184, 0, 47, 154, 0, 30, 27, 4, 160, 0, 13, 28, 3, 16, 9]
abbrev dktX2_leaf_0 : List UInt8 := dkwX2_leaf_0 ++ dktX2_leaf_1
theorem dksX2_leaf_0 : cX2_leaf.data.toList.drop 0 = dktX2_leaf_0 := by decide +kernel
theorem dksX2_leaf_1 : cX2_leaf.data.toList.drop 24 = dktX2_leaf_1 := dk_seg dksX2_leaf_0 24 rfl rfl
theorem dksX2_leaf_2 : cX2_leaf.data.toList.drop 48 = dktX2_leaf_2 := dk_seg dksX2_leaf_1 24 rfl rfl
theorem dksX2_leaf_3 : cX2_leaf.data.toList.drop 72 = dktX2_leaf_3 := dk_seg dksX2_leaf_2 24 rfl rfl
theorem dX2_leaf_0 : decode cX2_leaf 0 = .ok (.iload_n 1, 1) := dk_27 (dk_at dksX2_leaf_0 0 rfl rfl)
theorem dX2_leaf_1 : decode cX2_leaf 1 = .ok (.ifCond .ne 14, 3) := dk_154 0 14 (dk_at dksX2_leaf_0 1 rfl rfl)
theorem dX2_leaf_4 : decode cX2_leaf 4 = .ok (.iload_n 2, 1) := dk_28 (dk_at dksX2_leaf_0 4 rfl rfl)
theorem dX2_leaf_5 : decode cX2_leaf 5 = .ok (.bipush (-99), 2) := dk_16 157 (dk_at dksX2_leaf_0 5 rfl rfl)
theorem dX2_leaf_7 : decode cX2_leaf 7 = .ok (.bipush 99, 2) := dk_16 99 (dk_at dksX2_leaf_0 7 rfl rfl)
theorem dX2_leaf_9 : decode cX2_leaf 9 = .ok (.invokestatic 47, 3) := dk_184 0 47 (dk_at dksX2_leaf_0 9 rfl rfl)
theorem dX2_leaf_12 : decode cX2_leaf 12 = .ok (.ifCond .ne 30, 3) := dk_154 0 30 (dk_at dksX2_leaf_0 12 rfl rfl)
theorem dX2_leaf_15 : decode cX2_leaf 15 = .ok (.iload_n 1, 1) := dk_27 (dk_at dksX2_leaf_0 15 rfl rfl)
theorem dX2_leaf_16 : decode cX2_leaf 16 = .ok (.iconst 1, 1) := dk_4 (dk_at dksX2_leaf_0 16 rfl rfl)
theorem dX2_leaf_17 : decode cX2_leaf 17 = .ok (.if_icmp .ne 13, 3) := dk_160 0 13 (dk_at dksX2_leaf_0 17 rfl rfl)
theorem dX2_leaf_20 : decode cX2_leaf 20 = .ok (.iload_n 2, 1) := dk_28 (dk_at dksX2_leaf_0 20 rfl rfl)
theorem dX2_leaf_21 : decode cX2_leaf 21 = .ok (.iconst 0, 1) := dk_3 (dk_at dksX2_leaf_0 21 rfl rfl)
theorem dX2_leaf_22 : decode cX2_leaf 22 = .ok (.bipush 9, 2) := dk_16 9 (dk_at dksX2_leaf_0 22 rfl rfl)
theorem dX2_leaf_24 : decode cX2_leaf 24 = .ok (.invokestatic 47, 3) := dk_184 0 47 (dk_at dksX2_leaf_1 0 rfl rfl)
theorem dX2_leaf_27 : decode cX2_leaf 27 = .ok (.ifCond .ne 15, 3) := dk_154 0 15 (dk_at dksX2_leaf_1 3 rfl rfl)
theorem dX2_leaf_30 : decode cX2_leaf 30 = .ok (.iload_n 1, 1) := dk_27 (dk_at dksX2_leaf_1 6 rfl rfl)
theorem dX2_leaf_31 : decode cX2_leaf 31 = .ok (.bipush 6, 2) := dk_16 6 (dk_at dksX2_leaf_1 7 rfl rfl)
theorem dX2_leaf_33 : decode cX2_leaf 33 = .ok (.if_icmp .eq 9, 3) := dk_159 0 9 (dk_at dksX2_leaf_1 9 rfl rfl)
theorem dX2_leaf_36 : decode cX2_leaf 36 = .ok (.iload_n 1, 1) := dk_27 (dk_at dksX2_leaf_1 12 rfl rfl)
theorem dX2_leaf_37 : decode cX2_leaf 37 = .ok (.bipush 15, 2) := dk_16 15 (dk_at dksX2_leaf_1 13 rfl rfl)
theorem dX2_leaf_39 : decode cX2_leaf 39 = .ok (.if_icmp .ne 7, 3) := dk_160 0 7 (dk_at dksX2_leaf_1 15 rfl rfl)
theorem dX2_leaf_42 : decode cX2_leaf 42 = .ok (.iconst 1, 1) := dk_4 (dk_at dksX2_leaf_1 18 rfl rfl)
theorem dX2_leaf_43 : decode cX2_leaf 43 = .ok (.goto 4, 3) := dk_167 0 4 (dk_at dksX2_leaf_1 19 rfl rfl)
theorem dX2_leaf_46 : decode cX2_leaf 46 = .ok (.iconst 0, 1) := dk_3 (dk_at dksX2_leaf_1 22 rfl rfl)
theorem dX2_leaf_47 : decode cX2_leaf 47 = .ok (.istore_n 3, 1) := dk_62 (dk_at dksX2_leaf_1 23 rfl rfl)
theorem dX2_leaf_48 : decode cX2_leaf 48 = .ok (.aload_n 0, 1) := dk_42 (dk_at dksX2_leaf_2 0 rfl rfl)
theorem dX2_leaf_49 : decode cX2_leaf 49 = .ok (.iload_n 3, 1) := dk_29 (dk_at dksX2_leaf_2 1 rfl rfl)
theorem dX2_leaf_50 : decode cX2_leaf 50 = .ok (.aload_n 0, 1) := dk_42 (dk_at dksX2_leaf_2 2 rfl rfl)
theorem dX2_leaf_51 : decode cX2_leaf 51 = .ok (.getfield 44, 3) := dk_180 0 44 (dk_at dksX2_leaf_2 3 rfl rfl)
theorem dX2_leaf_54 : decode cX2_leaf 54 = .ok (.bipush 120, 2) := dk_16 120 (dk_at dksX2_leaf_2 6 rfl rfl)
theorem dX2_leaf_56 : decode cX2_leaf 56 = .ok (.if_icmp .ge 7, 3) := dk_162 0 7 (dk_at dksX2_leaf_2 8 rfl rfl)
theorem dX2_leaf_59 : decode cX2_leaf 59 = .ok (.iconst 1, 1) := dk_4 (dk_at dksX2_leaf_2 11 rfl rfl)
theorem dX2_leaf_60 : decode cX2_leaf 60 = .ok (.goto 4, 3) := dk_167 0 4 (dk_at dksX2_leaf_2 12 rfl rfl)
theorem dX2_leaf_63 : decode cX2_leaf 63 = .ok (.iconst 0, 1) := dk_3 (dk_at dksX2_leaf_2 15 rfl rfl)
theorem dX2_leaf_64 : decode cX2_leaf 64 = .ok (.iconst 1, 1) := dk_4 (dk_at dksX2_leaf_2 16 rfl rfl)
theorem dX2_leaf_65 : decode cX2_leaf 65 = .ok (.invokevirtual 59, 3) := dk_182 0 59 (dk_at dksX2_leaf_2 17 rfl rfl)
theorem dX2_leaf_68 : decode cX2_leaf 68 = .ok (.ifCond .eq 15, 3) := dk_153 0 15 (dk_at dksX2_leaf_2 20 rfl rfl)
theorem dX2_leaf_71 : decode cX2_leaf 71 = .ok (.aload_n 0, 1) := dk_42 (dk_at dksX2_leaf_2 23 rfl rfl)
theorem dX2_leaf_72 : decode cX2_leaf 72 = .ok (.iload_n 1, 1) := dk_27 (dk_at dksX2_leaf_3 0 rfl rfl)
theorem dX2_leaf_73 : decode cX2_leaf 73 = .ok (.iload_n 2, 1) := dk_28 (dk_at dksX2_leaf_3 1 rfl rfl)
theorem dX2_leaf_74 : decode cX2_leaf 74 = .ok (.iconst (-1), 1) := dk_2 (dk_at dksX2_leaf_3 2 rfl rfl)
theorem dX2_leaf_75 : decode cX2_leaf 75 = .ok (.iconst (-1), 1) := dk_2 (dk_at dksX2_leaf_3 3 rfl rfl)
theorem dX2_leaf_76 : decode cX2_leaf 76 = .ok (.iconst (-1), 1) := dk_2 (dk_at dksX2_leaf_3 4 rfl rfl)
theorem dX2_leaf_77 : decode cX2_leaf 77 = .ok (.invokevirtual 63, 3) := dk_182 0 63 (dk_at dksX2_leaf_3 5 rfl rfl)
theorem dX2_leaf_80 : decode cX2_leaf 80 = .ok (.goto 4, 3) := dk_167 0 4 (dk_at dksX2_leaf_3 8 rfl rfl)
theorem dX2_leaf_83 : decode cX2_leaf 83 = .ok (.iconst 0, 1) := dk_3 (dk_at dksX2_leaf_3 11 rfl rfl)
theorem dX2_leaf_84 : decode cX2_leaf 84 = .ok (.ireturn, 1) := dk_172 (dk_at dksX2_leaf_3 12 rfl rfl)
abbrev cX2_in : ByteArray := prog_45_method_3_code
def yX2_in : MethodName := ⟨RX2, "in", "(III)Z"⟩
def dkwX2_in_0 : List UInt8 := [26, 27, 161, 0, 12, 26, 28, 163, 0, 7, 4, 167, 0, 4, 3, 172]
abbrev dktX2_in_0 : List UInt8 := dkwX2_in_0 ++ []
theorem dksX2_in_0 : cX2_in.data.toList.drop 0 = dktX2_in_0 := by decide +kernel
theorem dX2_in_0 : decode cX2_in 0 = .ok (.iload_n 0, 1) := dk_26 (dk_at dksX2_in_0 0 rfl rfl)
theorem dX2_in_1 : decode cX2_in 1 = .ok (.iload_n 1, 1) := dk_27 (dk_at dksX2_in_0 1 rfl rfl)
theorem dX2_in_2 : decode cX2_in 2 = .ok (.if_icmp .lt 12, 3) := dk_161 0 12 (dk_at dksX2_in_0 2 rfl rfl)
theorem dX2_in_5 : decode cX2_in 5 = .ok (.iload_n 0, 1) := dk_26 (dk_at dksX2_in_0 5 rfl rfl)
theorem dX2_in_6 : decode cX2_in 6 = .ok (.iload_n 2, 1) := dk_28 (dk_at dksX2_in_0 6 rfl rfl)
theorem dX2_in_7 : decode cX2_in 7 = .ok (.if_icmp .gt 7, 3) := dk_163 0 7 (dk_at dksX2_in_0 7 rfl rfl)
theorem dX2_in_10 : decode cX2_in 10 = .ok (.iconst 1, 1) := dk_4 (dk_at dksX2_in_0 10 rfl rfl)
theorem dX2_in_11 : decode cX2_in 11 = .ok (.goto 4, 3) := dk_167 0 4 (dk_at dksX2_in_0 11 rfl rfl)
theorem dX2_in_14 : decode cX2_in 14 = .ok (.iconst 0, 1) := dk_3 (dk_at dksX2_in_0 14 rfl rfl)
theorem dX2_in_15 : decode cX2_in 15 = .ok (.ireturn, 1) := dk_172 (dk_at dksX2_in_0 15 rfl rfl)
abbrev cX2_goes : ByteArray := prog_45_method_4_code
def yX2_goes : MethodName := ⟨RX2, "goes", "(ZZZ)Z"⟩
def dkwX2_goes_1 : List UInt8 := [167, 0, 4, 3, 181, 0, 41, 42, 180, 0, 41, 154, 0, 7, 4, 167, 0, 4, 3, 172]
abbrev dktX2_goes_1 : List UInt8 := dkwX2_goes_1 ++ []
def dkwX2_goes_0 : List UInt8 := [42, 27, 154, 0, 7, 4, 167, 0, 20, 28, 154, 0, 7, 5, 167, 0, 12, 29, 154, 0, 7, 6]
abbrev dktX2_goes_0 : List UInt8 := dkwX2_goes_0 ++ dktX2_goes_1
theorem dksX2_goes_0 : cX2_goes.data.toList.drop 0 = dktX2_goes_0 := by decide +kernel
theorem dksX2_goes_1 : cX2_goes.data.toList.drop 22 = dktX2_goes_1 := dk_seg dksX2_goes_0 22 rfl rfl
theorem dX2_goes_0 : decode cX2_goes 0 = .ok (.aload_n 0, 1) := dk_42 (dk_at dksX2_goes_0 0 rfl rfl)
theorem dX2_goes_1 : decode cX2_goes 1 = .ok (.iload_n 1, 1) := dk_27 (dk_at dksX2_goes_0 1 rfl rfl)
theorem dX2_goes_2 : decode cX2_goes 2 = .ok (.ifCond .ne 7, 3) := dk_154 0 7 (dk_at dksX2_goes_0 2 rfl rfl)
theorem dX2_goes_5 : decode cX2_goes 5 = .ok (.iconst 1, 1) := dk_4 (dk_at dksX2_goes_0 5 rfl rfl)
theorem dX2_goes_6 : decode cX2_goes 6 = .ok (.goto 20, 3) := dk_167 0 20 (dk_at dksX2_goes_0 6 rfl rfl)
theorem dX2_goes_9 : decode cX2_goes 9 = .ok (.iload_n 2, 1) := dk_28 (dk_at dksX2_goes_0 9 rfl rfl)
theorem dX2_goes_10 : decode cX2_goes 10 = .ok (.ifCond .ne 7, 3) := dk_154 0 7 (dk_at dksX2_goes_0 10 rfl rfl)
theorem dX2_goes_13 : decode cX2_goes 13 = .ok (.iconst 2, 1) := dk_5 (dk_at dksX2_goes_0 13 rfl rfl)
theorem dX2_goes_14 : decode cX2_goes 14 = .ok (.goto 12, 3) := dk_167 0 12 (dk_at dksX2_goes_0 14 rfl rfl)
theorem dX2_goes_17 : decode cX2_goes 17 = .ok (.iload_n 3, 1) := dk_29 (dk_at dksX2_goes_0 17 rfl rfl)
theorem dX2_goes_18 : decode cX2_goes 18 = .ok (.ifCond .ne 7, 3) := dk_154 0 7 (dk_at dksX2_goes_0 18 rfl rfl)
theorem dX2_goes_21 : decode cX2_goes 21 = .ok (.iconst 3, 1) := dk_6 (dk_at dksX2_goes_0 21 rfl rfl)
theorem dX2_goes_22 : decode cX2_goes 22 = .ok (.goto 4, 3) := dk_167 0 4 (dk_at dksX2_goes_1 0 rfl rfl)
theorem dX2_goes_25 : decode cX2_goes 25 = .ok (.iconst 0, 1) := dk_3 (dk_at dksX2_goes_1 3 rfl rfl)
theorem dX2_goes_26 : decode cX2_goes 26 = .ok (.putfield 41, 3) := dk_181 0 41 (dk_at dksX2_goes_1 4 rfl rfl)
theorem dX2_goes_29 : decode cX2_goes 29 = .ok (.aload_n 0, 1) := dk_42 (dk_at dksX2_goes_1 7 rfl rfl)
theorem dX2_goes_30 : decode cX2_goes 30 = .ok (.getfield 41, 3) := dk_180 0 41 (dk_at dksX2_goes_1 8 rfl rfl)
theorem dX2_goes_33 : decode cX2_goes 33 = .ok (.ifCond .ne 7, 3) := dk_154 0 7 (dk_at dksX2_goes_1 11 rfl rfl)
theorem dX2_goes_36 : decode cX2_goes 36 = .ok (.iconst 1, 1) := dk_4 (dk_at dksX2_goes_1 14 rfl rfl)
theorem dX2_goes_37 : decode cX2_goes 37 = .ok (.goto 4, 3) := dk_167 0 4 (dk_at dksX2_goes_1 15 rfl rfl)
theorem dX2_goes_40 : decode cX2_goes 40 = .ok (.iconst 0, 1) := dk_3 (dk_at dksX2_goes_1 18 rfl rfl)
theorem dX2_goes_41 : decode cX2_goes 41 = .ok (.ireturn, 1) := dk_172 (dk_at dksX2_goes_1 19 rfl rfl)
abbrev cX2_makes : ByteArray := prog_45_method_9_code
def yX2_makes : MethodName := ⟨RX2, "makes", "(IIIII)I"⟩
def dkwX2_makes_4 : List UInt8 := [180, 0, 44, 4, 100, 172]
abbrev dktX2_makes_4 : List UInt8 := dkwX2_makes_4 ++ []
def dkwX2_makes_3 : List UInt8 := [182, 0, 55, 96, 42, 21, 5, 182, 0, 55, 96, 79, 42, 89, 180, 0, 44, 4, 96, 181, 0, 44, 42]
abbrev dktX2_makes_3 : List UInt8 := dkwX2_makes_3 ++ dktX2_makes_4
def dkwX2_makes_2 : List UInt8 := [180, 0, 44, 21, 5, 79, 42, 180, 0, 25, 42, 180, 0, 44, 4, 42, 29, 182, 0, 55, 96, 42, 21, 4]
abbrev dktX2_makes_2 : List UInt8 := dkwX2_makes_2 ++ dktX2_makes_3
def dkwX2_makes_1 : List UInt8 := [42, 180, 0, 44, 29, 79, 42, 180, 0, 19, 42, 180, 0, 44, 21, 4, 79, 42, 180, 0, 22, 42]
abbrev dktX2_makes_1 : List UInt8 := dkwX2_makes_1 ++ dktX2_makes_2
def dkwX2_makes_0 : List UInt8 := [42, 180, 0, 7, 42, 180, 0, 44, 27, 79, 42, 180, 0, 13, 42, 180, 0, 44, 28, 79, 42, 180, 0, 16]
abbrev dktX2_makes_0 : List UInt8 := dkwX2_makes_0 ++ dktX2_makes_1
theorem dksX2_makes_0 : cX2_makes.data.toList.drop 0 = dktX2_makes_0 := by decide +kernel
theorem dksX2_makes_1 : cX2_makes.data.toList.drop 24 = dktX2_makes_1 := dk_seg dksX2_makes_0 24 rfl rfl
theorem dksX2_makes_2 : cX2_makes.data.toList.drop 46 = dktX2_makes_2 := dk_seg dksX2_makes_1 22 rfl rfl
theorem dksX2_makes_3 : cX2_makes.data.toList.drop 70 = dktX2_makes_3 := dk_seg dksX2_makes_2 24 rfl rfl
theorem dksX2_makes_4 : cX2_makes.data.toList.drop 93 = dktX2_makes_4 := dk_seg dksX2_makes_3 23 rfl rfl
theorem dX2_makes_0 : decode cX2_makes 0 = .ok (.aload_n 0, 1) := dk_42 (dk_at dksX2_makes_0 0 rfl rfl)
theorem dX2_makes_1 : decode cX2_makes 1 = .ok (.getfield 7, 3) := dk_180 0 7 (dk_at dksX2_makes_0 1 rfl rfl)
theorem dX2_makes_4 : decode cX2_makes 4 = .ok (.aload_n 0, 1) := dk_42 (dk_at dksX2_makes_0 4 rfl rfl)
theorem dX2_makes_5 : decode cX2_makes 5 = .ok (.getfield 44, 3) := dk_180 0 44 (dk_at dksX2_makes_0 5 rfl rfl)
theorem dX2_makes_8 : decode cX2_makes 8 = .ok (.iload_n 1, 1) := dk_27 (dk_at dksX2_makes_0 8 rfl rfl)
theorem dX2_makes_9 : decode cX2_makes 9 = .ok (.iastore, 1) := dk_79 (dk_at dksX2_makes_0 9 rfl rfl)
theorem dX2_makes_10 : decode cX2_makes 10 = .ok (.aload_n 0, 1) := dk_42 (dk_at dksX2_makes_0 10 rfl rfl)
theorem dX2_makes_11 : decode cX2_makes 11 = .ok (.getfield 13, 3) := dk_180 0 13 (dk_at dksX2_makes_0 11 rfl rfl)
theorem dX2_makes_14 : decode cX2_makes 14 = .ok (.aload_n 0, 1) := dk_42 (dk_at dksX2_makes_0 14 rfl rfl)
theorem dX2_makes_15 : decode cX2_makes 15 = .ok (.getfield 44, 3) := dk_180 0 44 (dk_at dksX2_makes_0 15 rfl rfl)
theorem dX2_makes_18 : decode cX2_makes 18 = .ok (.iload_n 2, 1) := dk_28 (dk_at dksX2_makes_0 18 rfl rfl)
theorem dX2_makes_19 : decode cX2_makes 19 = .ok (.iastore, 1) := dk_79 (dk_at dksX2_makes_0 19 rfl rfl)
theorem dX2_makes_20 : decode cX2_makes 20 = .ok (.aload_n 0, 1) := dk_42 (dk_at dksX2_makes_0 20 rfl rfl)
theorem dX2_makes_21 : decode cX2_makes 21 = .ok (.getfield 16, 3) := dk_180 0 16 (dk_at dksX2_makes_0 21 rfl rfl)
theorem dX2_makes_24 : decode cX2_makes 24 = .ok (.aload_n 0, 1) := dk_42 (dk_at dksX2_makes_1 0 rfl rfl)
theorem dX2_makes_25 : decode cX2_makes 25 = .ok (.getfield 44, 3) := dk_180 0 44 (dk_at dksX2_makes_1 1 rfl rfl)
theorem dX2_makes_28 : decode cX2_makes 28 = .ok (.iload_n 3, 1) := dk_29 (dk_at dksX2_makes_1 4 rfl rfl)
theorem dX2_makes_29 : decode cX2_makes 29 = .ok (.iastore, 1) := dk_79 (dk_at dksX2_makes_1 5 rfl rfl)
theorem dX2_makes_30 : decode cX2_makes 30 = .ok (.aload_n 0, 1) := dk_42 (dk_at dksX2_makes_1 6 rfl rfl)
theorem dX2_makes_31 : decode cX2_makes 31 = .ok (.getfield 19, 3) := dk_180 0 19 (dk_at dksX2_makes_1 7 rfl rfl)
theorem dX2_makes_34 : decode cX2_makes 34 = .ok (.aload_n 0, 1) := dk_42 (dk_at dksX2_makes_1 10 rfl rfl)
theorem dX2_makes_35 : decode cX2_makes 35 = .ok (.getfield 44, 3) := dk_180 0 44 (dk_at dksX2_makes_1 11 rfl rfl)
theorem dX2_makes_38 : decode cX2_makes 38 = .ok (.iload 4, 2) := dk_21 4 (dk_at dksX2_makes_1 14 rfl rfl)
theorem dX2_makes_40 : decode cX2_makes 40 = .ok (.iastore, 1) := dk_79 (dk_at dksX2_makes_1 16 rfl rfl)
theorem dX2_makes_41 : decode cX2_makes 41 = .ok (.aload_n 0, 1) := dk_42 (dk_at dksX2_makes_1 17 rfl rfl)
theorem dX2_makes_42 : decode cX2_makes 42 = .ok (.getfield 22, 3) := dk_180 0 22 (dk_at dksX2_makes_1 18 rfl rfl)
theorem dX2_makes_45 : decode cX2_makes 45 = .ok (.aload_n 0, 1) := dk_42 (dk_at dksX2_makes_1 21 rfl rfl)
theorem dX2_makes_46 : decode cX2_makes 46 = .ok (.getfield 44, 3) := dk_180 0 44 (dk_at dksX2_makes_2 0 rfl rfl)
theorem dX2_makes_49 : decode cX2_makes 49 = .ok (.iload 5, 2) := dk_21 5 (dk_at dksX2_makes_2 3 rfl rfl)
theorem dX2_makes_51 : decode cX2_makes 51 = .ok (.iastore, 1) := dk_79 (dk_at dksX2_makes_2 5 rfl rfl)
theorem dX2_makes_52 : decode cX2_makes 52 = .ok (.aload_n 0, 1) := dk_42 (dk_at dksX2_makes_2 6 rfl rfl)
theorem dX2_makes_53 : decode cX2_makes 53 = .ok (.getfield 25, 3) := dk_180 0 25 (dk_at dksX2_makes_2 7 rfl rfl)
theorem dX2_makes_56 : decode cX2_makes 56 = .ok (.aload_n 0, 1) := dk_42 (dk_at dksX2_makes_2 10 rfl rfl)
theorem dX2_makes_57 : decode cX2_makes 57 = .ok (.getfield 44, 3) := dk_180 0 44 (dk_at dksX2_makes_2 11 rfl rfl)
theorem dX2_makes_60 : decode cX2_makes 60 = .ok (.iconst 1, 1) := dk_4 (dk_at dksX2_makes_2 14 rfl rfl)
theorem dX2_makes_61 : decode cX2_makes 61 = .ok (.aload_n 0, 1) := dk_42 (dk_at dksX2_makes_2 15 rfl rfl)
theorem dX2_makes_62 : decode cX2_makes 62 = .ok (.iload_n 3, 1) := dk_29 (dk_at dksX2_makes_2 16 rfl rfl)
theorem dX2_makes_63 : decode cX2_makes 63 = .ok (.invokevirtual 55, 3) := dk_182 0 55 (dk_at dksX2_makes_2 17 rfl rfl)
theorem dX2_makes_66 : decode cX2_makes 66 = .ok (.iadd, 1) := dk_96 (dk_at dksX2_makes_2 20 rfl rfl)
theorem dX2_makes_67 : decode cX2_makes 67 = .ok (.aload_n 0, 1) := dk_42 (dk_at dksX2_makes_2 21 rfl rfl)
theorem dX2_makes_68 : decode cX2_makes 68 = .ok (.iload 4, 2) := dk_21 4 (dk_at dksX2_makes_2 22 rfl rfl)
theorem dX2_makes_70 : decode cX2_makes 70 = .ok (.invokevirtual 55, 3) := dk_182 0 55 (dk_at dksX2_makes_3 0 rfl rfl)
theorem dX2_makes_73 : decode cX2_makes 73 = .ok (.iadd, 1) := dk_96 (dk_at dksX2_makes_3 3 rfl rfl)
theorem dX2_makes_74 : decode cX2_makes 74 = .ok (.aload_n 0, 1) := dk_42 (dk_at dksX2_makes_3 4 rfl rfl)
theorem dX2_makes_75 : decode cX2_makes 75 = .ok (.iload 5, 2) := dk_21 5 (dk_at dksX2_makes_3 5 rfl rfl)
theorem dX2_makes_77 : decode cX2_makes 77 = .ok (.invokevirtual 55, 3) := dk_182 0 55 (dk_at dksX2_makes_3 7 rfl rfl)
theorem dX2_makes_80 : decode cX2_makes 80 = .ok (.iadd, 1) := dk_96 (dk_at dksX2_makes_3 10 rfl rfl)
theorem dX2_makes_81 : decode cX2_makes 81 = .ok (.iastore, 1) := dk_79 (dk_at dksX2_makes_3 11 rfl rfl)
theorem dX2_makes_82 : decode cX2_makes 82 = .ok (.aload_n 0, 1) := dk_42 (dk_at dksX2_makes_3 12 rfl rfl)
theorem dX2_makes_83 : decode cX2_makes 83 = .ok (.dup, 1) := dk_89 (dk_at dksX2_makes_3 13 rfl rfl)
theorem dX2_makes_84 : decode cX2_makes 84 = .ok (.getfield 44, 3) := dk_180 0 44 (dk_at dksX2_makes_3 14 rfl rfl)
theorem dX2_makes_87 : decode cX2_makes 87 = .ok (.iconst 1, 1) := dk_4 (dk_at dksX2_makes_3 17 rfl rfl)
theorem dX2_makes_88 : decode cX2_makes 88 = .ok (.iadd, 1) := dk_96 (dk_at dksX2_makes_3 18 rfl rfl)
theorem dX2_makes_89 : decode cX2_makes 89 = .ok (.putfield 44, 3) := dk_181 0 44 (dk_at dksX2_makes_3 19 rfl rfl)
theorem dX2_makes_92 : decode cX2_makes 92 = .ok (.aload_n 0, 1) := dk_42 (dk_at dksX2_makes_3 22 rfl rfl)
theorem dX2_makes_93 : decode cX2_makes 93 = .ok (.getfield 44, 3) := dk_180 0 44 (dk_at dksX2_makes_4 0 rfl rfl)
theorem dX2_makes_96 : decode cX2_makes 96 = .ok (.iconst 1, 1) := dk_4 (dk_at dksX2_makes_4 3 rfl rfl)
theorem dX2_makes_97 : decode cX2_makes 97 = .ok (.isub, 1) := dk_100 (dk_at dksX2_makes_4 4 rfl rfl)
theorem dX2_makes_98 : decode cX2_makes 98 = .ok (.ireturn, 1) := dk_172 (dk_at dksX2_makes_4 5 rfl rfl)
abbrev cX2_weightOf : ByteArray := prog_45_method_8_code
def yX2_weightOf : MethodName := ⟨RX2, "weightOf", "(I)I"⟩
def dkwX2_weightOf_0 : List UInt8 := [27, 2, 160, 0, 7, 3, 167, 0, 9, 42, 180, 0, 25, 27, 46, 172]
abbrev dktX2_weightOf_0 : List UInt8 := dkwX2_weightOf_0 ++ []
theorem dksX2_weightOf_0 : cX2_weightOf.data.toList.drop 0 = dktX2_weightOf_0 := by decide +kernel
theorem dX2_weightOf_0 : decode cX2_weightOf 0 = .ok (.iload_n 1, 1) := dk_27 (dk_at dksX2_weightOf_0 0 rfl rfl)
theorem dX2_weightOf_1 : decode cX2_weightOf 1 = .ok (.iconst (-1), 1) := dk_2 (dk_at dksX2_weightOf_0 1 rfl rfl)
theorem dX2_weightOf_2 : decode cX2_weightOf 2 = .ok (.if_icmp .ne 7, 3) := dk_160 0 7 (dk_at dksX2_weightOf_0 2 rfl rfl)
theorem dX2_weightOf_5 : decode cX2_weightOf 5 = .ok (.iconst 0, 1) := dk_3 (dk_at dksX2_weightOf_0 5 rfl rfl)
theorem dX2_weightOf_6 : decode cX2_weightOf 6 = .ok (.goto 9, 3) := dk_167 0 9 (dk_at dksX2_weightOf_0 6 rfl rfl)
theorem dX2_weightOf_9 : decode cX2_weightOf 9 = .ok (.aload_n 0, 1) := dk_42 (dk_at dksX2_weightOf_0 9 rfl rfl)
theorem dX2_weightOf_10 : decode cX2_weightOf 10 = .ok (.getfield 25, 3) := dk_180 0 25 (dk_at dksX2_weightOf_0 10 rfl rfl)
theorem dX2_weightOf_13 : decode cX2_weightOf 13 = .ok (.iload_n 1, 1) := dk_27 (dk_at dksX2_weightOf_0 13 rfl rfl)
theorem dX2_weightOf_14 : decode cX2_weightOf 14 = .ok (.iaload, 1) := dk_46 (dk_at dksX2_weightOf_0 14 rfl rfl)
theorem dX2_weightOf_15 : decode cX2_weightOf 15 = .ok (.ireturn, 1) := dk_172 (dk_at dksX2_weightOf_0 15 rfl rfl)
abbrev cX2_named : ByteArray := prog_45_method_12_code
def yX2_named : MethodName := ⟨RX2, "named", "(IIII)I"⟩
def dkwX2_named_7 : List UInt8 := [167, 0, 4, 3, 172]
abbrev dktX2_named_7 : List UInt8 := dkwX2_named_7 ++ []
def dkwX2_named_6 : List UInt8 := [163, 0, 7, 4, 167, 0, 4, 3, 182, 0, 59, 153, 0, 16, 42, 27, 28, 29, 21, 7, 2, 182, 0, 63]
abbrev dktX2_named_6 : List UInt8 := dkwX2_named_6 ++ dktX2_named_7
def dkwX2_named_5 : List UInt8 := [180, 0, 44, 16, 120, 162, 0, 26, 4, 42, 29, 182, 0, 55, 96, 42, 21, 7, 182, 0, 55, 96, 16, 30]
abbrev dktX2_named_5 : List UInt8 := dkwX2_named_5 ++ dktX2_named_6
def dkwX2_named_4 : List UInt8 := [153, 0, 8, 21, 4, 167, 0, 4, 2, 54, 7, 42, 21, 5, 21, 6, 21, 6, 153, 0, 35, 42]
abbrev dktX2_named_4 : List UInt8 := dkwX2_named_4 ++ dktX2_named_5
def dkwX2_named_3 : List UInt8 := [153, 0, 12, 42, 21, 4, 182, 0, 70, 153, 0, 7, 4, 167, 0, 4, 3, 54, 6, 27, 184, 0, 67]
abbrev dktX2_named_3 : List UInt8 := dkwX2_named_3 ++ dktX2_named_4
def dkwX2_named_2 : List UInt8 := [167, 0, 4, 3, 54, 5, 21, 5, 153, 0, 31, 42, 29, 182, 0, 70, 153, 0, 23, 27, 184, 0, 67]
abbrev dktX2_named_2 : List UInt8 := dkwX2_named_2 ++ dktX2_named_3
def dkwX2_named_1 : List UInt8 := [27, 16, 10, 159, 0, 9, 27, 16, 16, 160, 0, 17, 28, 3, 16, 9, 184, 0, 47, 153, 0, 7, 4]
abbrev dktX2_named_1 : List UInt8 := dkwX2_named_1 ++ dktX2_named_2
def dkwX2_named_0 : List UInt8 := [27, 5, 159, 0, 34, 27, 184, 0, 67, 154, 0, 27, 27, 16, 8, 159, 0, 21, 27, 16, 9, 159, 0, 15]
abbrev dktX2_named_0 : List UInt8 := dkwX2_named_0 ++ dktX2_named_1
theorem dksX2_named_0 : cX2_named.data.toList.drop 0 = dktX2_named_0 := by decide +kernel
theorem dksX2_named_1 : cX2_named.data.toList.drop 24 = dktX2_named_1 := dk_seg dksX2_named_0 24 rfl rfl
theorem dksX2_named_2 : cX2_named.data.toList.drop 47 = dktX2_named_2 := dk_seg dksX2_named_1 23 rfl rfl
theorem dksX2_named_3 : cX2_named.data.toList.drop 70 = dktX2_named_3 := dk_seg dksX2_named_2 23 rfl rfl
theorem dksX2_named_4 : cX2_named.data.toList.drop 93 = dktX2_named_4 := dk_seg dksX2_named_3 23 rfl rfl
theorem dksX2_named_5 : cX2_named.data.toList.drop 115 = dktX2_named_5 := dk_seg dksX2_named_4 22 rfl rfl
theorem dksX2_named_6 : cX2_named.data.toList.drop 139 = dktX2_named_6 := dk_seg dksX2_named_5 24 rfl rfl
theorem dksX2_named_7 : cX2_named.data.toList.drop 163 = dktX2_named_7 := dk_seg dksX2_named_6 24 rfl rfl
theorem dX2_named_0 : decode cX2_named 0 = .ok (.iload_n 1, 1) := dk_27 (dk_at dksX2_named_0 0 rfl rfl)
theorem dX2_named_1 : decode cX2_named 1 = .ok (.iconst 2, 1) := dk_5 (dk_at dksX2_named_0 1 rfl rfl)
theorem dX2_named_2 : decode cX2_named 2 = .ok (.if_icmp .eq 34, 3) := dk_159 0 34 (dk_at dksX2_named_0 2 rfl rfl)
theorem dX2_named_5 : decode cX2_named 5 = .ok (.iload_n 1, 1) := dk_27 (dk_at dksX2_named_0 5 rfl rfl)
theorem dX2_named_6 : decode cX2_named 6 = .ok (.invokestatic 67, 3) := dk_184 0 67 (dk_at dksX2_named_0 6 rfl rfl)
theorem dX2_named_9 : decode cX2_named 9 = .ok (.ifCond .ne 27, 3) := dk_154 0 27 (dk_at dksX2_named_0 9 rfl rfl)
theorem dX2_named_12 : decode cX2_named 12 = .ok (.iload_n 1, 1) := dk_27 (dk_at dksX2_named_0 12 rfl rfl)
theorem dX2_named_13 : decode cX2_named 13 = .ok (.bipush 8, 2) := dk_16 8 (dk_at dksX2_named_0 13 rfl rfl)
theorem dX2_named_15 : decode cX2_named 15 = .ok (.if_icmp .eq 21, 3) := dk_159 0 21 (dk_at dksX2_named_0 15 rfl rfl)
theorem dX2_named_18 : decode cX2_named 18 = .ok (.iload_n 1, 1) := dk_27 (dk_at dksX2_named_0 18 rfl rfl)
theorem dX2_named_19 : decode cX2_named 19 = .ok (.bipush 9, 2) := dk_16 9 (dk_at dksX2_named_0 19 rfl rfl)
theorem dX2_named_21 : decode cX2_named 21 = .ok (.if_icmp .eq 15, 3) := dk_159 0 15 (dk_at dksX2_named_0 21 rfl rfl)
theorem dX2_named_24 : decode cX2_named 24 = .ok (.iload_n 1, 1) := dk_27 (dk_at dksX2_named_1 0 rfl rfl)
theorem dX2_named_25 : decode cX2_named 25 = .ok (.bipush 10, 2) := dk_16 10 (dk_at dksX2_named_1 1 rfl rfl)
theorem dX2_named_27 : decode cX2_named 27 = .ok (.if_icmp .eq 9, 3) := dk_159 0 9 (dk_at dksX2_named_1 3 rfl rfl)
theorem dX2_named_30 : decode cX2_named 30 = .ok (.iload_n 1, 1) := dk_27 (dk_at dksX2_named_1 6 rfl rfl)
theorem dX2_named_31 : decode cX2_named 31 = .ok (.bipush 16, 2) := dk_16 16 (dk_at dksX2_named_1 7 rfl rfl)
theorem dX2_named_33 : decode cX2_named 33 = .ok (.if_icmp .ne 17, 3) := dk_160 0 17 (dk_at dksX2_named_1 9 rfl rfl)
theorem dX2_named_36 : decode cX2_named 36 = .ok (.iload_n 2, 1) := dk_28 (dk_at dksX2_named_1 12 rfl rfl)
theorem dX2_named_37 : decode cX2_named 37 = .ok (.iconst 0, 1) := dk_3 (dk_at dksX2_named_1 13 rfl rfl)
theorem dX2_named_38 : decode cX2_named 38 = .ok (.bipush 9, 2) := dk_16 9 (dk_at dksX2_named_1 14 rfl rfl)
theorem dX2_named_40 : decode cX2_named 40 = .ok (.invokestatic 47, 3) := dk_184 0 47 (dk_at dksX2_named_1 16 rfl rfl)
theorem dX2_named_43 : decode cX2_named 43 = .ok (.ifCond .eq 7, 3) := dk_153 0 7 (dk_at dksX2_named_1 19 rfl rfl)
theorem dX2_named_46 : decode cX2_named 46 = .ok (.iconst 1, 1) := dk_4 (dk_at dksX2_named_1 22 rfl rfl)
theorem dX2_named_47 : decode cX2_named 47 = .ok (.goto 4, 3) := dk_167 0 4 (dk_at dksX2_named_2 0 rfl rfl)
theorem dX2_named_50 : decode cX2_named 50 = .ok (.iconst 0, 1) := dk_3 (dk_at dksX2_named_2 3 rfl rfl)
theorem dX2_named_51 : decode cX2_named 51 = .ok (.istore 5, 2) := dk_54 5 (dk_at dksX2_named_2 4 rfl rfl)
theorem dX2_named_53 : decode cX2_named 53 = .ok (.iload 5, 2) := dk_21 5 (dk_at dksX2_named_2 6 rfl rfl)
theorem dX2_named_55 : decode cX2_named 55 = .ok (.ifCond .eq 31, 3) := dk_153 0 31 (dk_at dksX2_named_2 8 rfl rfl)
theorem dX2_named_58 : decode cX2_named 58 = .ok (.aload_n 0, 1) := dk_42 (dk_at dksX2_named_2 11 rfl rfl)
theorem dX2_named_59 : decode cX2_named 59 = .ok (.iload_n 3, 1) := dk_29 (dk_at dksX2_named_2 12 rfl rfl)
theorem dX2_named_60 : decode cX2_named 60 = .ok (.invokevirtual 70, 3) := dk_182 0 70 (dk_at dksX2_named_2 13 rfl rfl)
theorem dX2_named_63 : decode cX2_named 63 = .ok (.ifCond .eq 23, 3) := dk_153 0 23 (dk_at dksX2_named_2 16 rfl rfl)
theorem dX2_named_66 : decode cX2_named 66 = .ok (.iload_n 1, 1) := dk_27 (dk_at dksX2_named_2 19 rfl rfl)
theorem dX2_named_67 : decode cX2_named 67 = .ok (.invokestatic 67, 3) := dk_184 0 67 (dk_at dksX2_named_2 20 rfl rfl)
theorem dX2_named_70 : decode cX2_named 70 = .ok (.ifCond .eq 12, 3) := dk_153 0 12 (dk_at dksX2_named_3 0 rfl rfl)
theorem dX2_named_73 : decode cX2_named 73 = .ok (.aload_n 0, 1) := dk_42 (dk_at dksX2_named_3 3 rfl rfl)
theorem dX2_named_74 : decode cX2_named 74 = .ok (.iload 4, 2) := dk_21 4 (dk_at dksX2_named_3 4 rfl rfl)
theorem dX2_named_76 : decode cX2_named 76 = .ok (.invokevirtual 70, 3) := dk_182 0 70 (dk_at dksX2_named_3 6 rfl rfl)
theorem dX2_named_79 : decode cX2_named 79 = .ok (.ifCond .eq 7, 3) := dk_153 0 7 (dk_at dksX2_named_3 9 rfl rfl)
theorem dX2_named_82 : decode cX2_named 82 = .ok (.iconst 1, 1) := dk_4 (dk_at dksX2_named_3 12 rfl rfl)
theorem dX2_named_83 : decode cX2_named 83 = .ok (.goto 4, 3) := dk_167 0 4 (dk_at dksX2_named_3 13 rfl rfl)
theorem dX2_named_86 : decode cX2_named 86 = .ok (.iconst 0, 1) := dk_3 (dk_at dksX2_named_3 16 rfl rfl)
theorem dX2_named_87 : decode cX2_named 87 = .ok (.istore 6, 2) := dk_54 6 (dk_at dksX2_named_3 17 rfl rfl)
theorem dX2_named_89 : decode cX2_named 89 = .ok (.iload_n 1, 1) := dk_27 (dk_at dksX2_named_3 19 rfl rfl)
theorem dX2_named_90 : decode cX2_named 90 = .ok (.invokestatic 67, 3) := dk_184 0 67 (dk_at dksX2_named_3 20 rfl rfl)
theorem dX2_named_93 : decode cX2_named 93 = .ok (.ifCond .eq 8, 3) := dk_153 0 8 (dk_at dksX2_named_4 0 rfl rfl)
theorem dX2_named_96 : decode cX2_named 96 = .ok (.iload 4, 2) := dk_21 4 (dk_at dksX2_named_4 3 rfl rfl)
theorem dX2_named_98 : decode cX2_named 98 = .ok (.goto 4, 3) := dk_167 0 4 (dk_at dksX2_named_4 5 rfl rfl)
theorem dX2_named_101 : decode cX2_named 101 = .ok (.iconst (-1), 1) := dk_2 (dk_at dksX2_named_4 8 rfl rfl)
theorem dX2_named_102 : decode cX2_named 102 = .ok (.istore 7, 2) := dk_54 7 (dk_at dksX2_named_4 9 rfl rfl)
theorem dX2_named_104 : decode cX2_named 104 = .ok (.aload_n 0, 1) := dk_42 (dk_at dksX2_named_4 11 rfl rfl)
theorem dX2_named_105 : decode cX2_named 105 = .ok (.iload 5, 2) := dk_21 5 (dk_at dksX2_named_4 12 rfl rfl)
theorem dX2_named_107 : decode cX2_named 107 = .ok (.iload 6, 2) := dk_21 6 (dk_at dksX2_named_4 14 rfl rfl)
theorem dX2_named_109 : decode cX2_named 109 = .ok (.iload 6, 2) := dk_21 6 (dk_at dksX2_named_4 16 rfl rfl)
theorem dX2_named_111 : decode cX2_named 111 = .ok (.ifCond .eq 35, 3) := dk_153 0 35 (dk_at dksX2_named_4 18 rfl rfl)
theorem dX2_named_114 : decode cX2_named 114 = .ok (.aload_n 0, 1) := dk_42 (dk_at dksX2_named_4 21 rfl rfl)
theorem dX2_named_115 : decode cX2_named 115 = .ok (.getfield 44, 3) := dk_180 0 44 (dk_at dksX2_named_5 0 rfl rfl)
theorem dX2_named_118 : decode cX2_named 118 = .ok (.bipush 120, 2) := dk_16 120 (dk_at dksX2_named_5 3 rfl rfl)
theorem dX2_named_120 : decode cX2_named 120 = .ok (.if_icmp .ge 26, 3) := dk_162 0 26 (dk_at dksX2_named_5 5 rfl rfl)
theorem dX2_named_123 : decode cX2_named 123 = .ok (.iconst 1, 1) := dk_4 (dk_at dksX2_named_5 8 rfl rfl)
theorem dX2_named_124 : decode cX2_named 124 = .ok (.aload_n 0, 1) := dk_42 (dk_at dksX2_named_5 9 rfl rfl)
theorem dX2_named_125 : decode cX2_named 125 = .ok (.iload_n 3, 1) := dk_29 (dk_at dksX2_named_5 10 rfl rfl)
theorem dX2_named_126 : decode cX2_named 126 = .ok (.invokevirtual 55, 3) := dk_182 0 55 (dk_at dksX2_named_5 11 rfl rfl)
theorem dX2_named_129 : decode cX2_named 129 = .ok (.iadd, 1) := dk_96 (dk_at dksX2_named_5 14 rfl rfl)
theorem dX2_named_130 : decode cX2_named 130 = .ok (.aload_n 0, 1) := dk_42 (dk_at dksX2_named_5 15 rfl rfl)
theorem dX2_named_131 : decode cX2_named 131 = .ok (.iload 7, 2) := dk_21 7 (dk_at dksX2_named_5 16 rfl rfl)
theorem dX2_named_133 : decode cX2_named 133 = .ok (.invokevirtual 55, 3) := dk_182 0 55 (dk_at dksX2_named_5 18 rfl rfl)
theorem dX2_named_136 : decode cX2_named 136 = .ok (.iadd, 1) := dk_96 (dk_at dksX2_named_5 21 rfl rfl)
theorem dX2_named_137 : decode cX2_named 137 = .ok (.bipush 30, 2) := dk_16 30 (dk_at dksX2_named_5 22 rfl rfl)
theorem dX2_named_139 : decode cX2_named 139 = .ok (.if_icmp .gt 7, 3) := dk_163 0 7 (dk_at dksX2_named_6 0 rfl rfl)
theorem dX2_named_142 : decode cX2_named 142 = .ok (.iconst 1, 1) := dk_4 (dk_at dksX2_named_6 3 rfl rfl)
theorem dX2_named_143 : decode cX2_named 143 = .ok (.goto 4, 3) := dk_167 0 4 (dk_at dksX2_named_6 4 rfl rfl)
theorem dX2_named_146 : decode cX2_named 146 = .ok (.iconst 0, 1) := dk_3 (dk_at dksX2_named_6 7 rfl rfl)
theorem dX2_named_147 : decode cX2_named 147 = .ok (.invokevirtual 59, 3) := dk_182 0 59 (dk_at dksX2_named_6 8 rfl rfl)
theorem dX2_named_150 : decode cX2_named 150 = .ok (.ifCond .eq 16, 3) := dk_153 0 16 (dk_at dksX2_named_6 11 rfl rfl)
theorem dX2_named_153 : decode cX2_named 153 = .ok (.aload_n 0, 1) := dk_42 (dk_at dksX2_named_6 14 rfl rfl)
theorem dX2_named_154 : decode cX2_named 154 = .ok (.iload_n 1, 1) := dk_27 (dk_at dksX2_named_6 15 rfl rfl)
theorem dX2_named_155 : decode cX2_named 155 = .ok (.iload_n 2, 1) := dk_28 (dk_at dksX2_named_6 16 rfl rfl)
theorem dX2_named_156 : decode cX2_named 156 = .ok (.iload_n 3, 1) := dk_29 (dk_at dksX2_named_6 17 rfl rfl)
theorem dX2_named_157 : decode cX2_named 157 = .ok (.iload 7, 2) := dk_21 7 (dk_at dksX2_named_6 18 rfl rfl)
theorem dX2_named_159 : decode cX2_named 159 = .ok (.iconst (-1), 1) := dk_2 (dk_at dksX2_named_6 20 rfl rfl)
theorem dX2_named_160 : decode cX2_named 160 = .ok (.invokevirtual 63, 3) := dk_182 0 63 (dk_at dksX2_named_6 21 rfl rfl)
theorem dX2_named_163 : decode cX2_named 163 = .ok (.goto 4, 3) := dk_167 0 4 (dk_at dksX2_named_7 0 rfl rfl)
theorem dX2_named_166 : decode cX2_named 166 = .ok (.iconst 0, 1) := dk_3 (dk_at dksX2_named_7 3 rfl rfl)
theorem dX2_named_167 : decode cX2_named 167 = .ok (.ireturn, 1) := dk_172 (dk_at dksX2_named_7 4 rfl rfl)
abbrev cX2_isOfTwo : ByteArray := prog_45_method_11_code
def yX2_isOfTwo : MethodName := ⟨RX2, "isOfTwo", "(I)Z"⟩
def dkwX2_isOfTwo_0 : List UInt8 := [26, 7, 159, 0, 14, 26, 8, 159, 0, 9, 26, 16, 7, 160, 0, 7, 4, 167, 0, 4, 3, 172]
abbrev dktX2_isOfTwo_0 : List UInt8 := dkwX2_isOfTwo_0 ++ []
theorem dksX2_isOfTwo_0 : cX2_isOfTwo.data.toList.drop 0 = dktX2_isOfTwo_0 := by decide +kernel
theorem dX2_isOfTwo_0 : decode cX2_isOfTwo 0 = .ok (.iload_n 0, 1) := dk_26 (dk_at dksX2_isOfTwo_0 0 rfl rfl)
theorem dX2_isOfTwo_1 : decode cX2_isOfTwo 1 = .ok (.iconst 4, 1) := dk_7 (dk_at dksX2_isOfTwo_0 1 rfl rfl)
theorem dX2_isOfTwo_2 : decode cX2_isOfTwo 2 = .ok (.if_icmp .eq 14, 3) := dk_159 0 14 (dk_at dksX2_isOfTwo_0 2 rfl rfl)
theorem dX2_isOfTwo_5 : decode cX2_isOfTwo 5 = .ok (.iload_n 0, 1) := dk_26 (dk_at dksX2_isOfTwo_0 5 rfl rfl)
theorem dX2_isOfTwo_6 : decode cX2_isOfTwo 6 = .ok (.iconst 5, 1) := dk_8 (dk_at dksX2_isOfTwo_0 6 rfl rfl)
theorem dX2_isOfTwo_7 : decode cX2_isOfTwo 7 = .ok (.if_icmp .eq 9, 3) := dk_159 0 9 (dk_at dksX2_isOfTwo_0 7 rfl rfl)
theorem dX2_isOfTwo_10 : decode cX2_isOfTwo 10 = .ok (.iload_n 0, 1) := dk_26 (dk_at dksX2_isOfTwo_0 10 rfl rfl)
theorem dX2_isOfTwo_11 : decode cX2_isOfTwo 11 = .ok (.bipush 7, 2) := dk_16 7 (dk_at dksX2_isOfTwo_0 11 rfl rfl)
theorem dX2_isOfTwo_13 : decode cX2_isOfTwo 13 = .ok (.if_icmp .ne 7, 3) := dk_160 0 7 (dk_at dksX2_isOfTwo_0 13 rfl rfl)
theorem dX2_isOfTwo_16 : decode cX2_isOfTwo 16 = .ok (.iconst 1, 1) := dk_4 (dk_at dksX2_isOfTwo_0 16 rfl rfl)
theorem dX2_isOfTwo_17 : decode cX2_isOfTwo 17 = .ok (.goto 4, 3) := dk_167 0 4 (dk_at dksX2_isOfTwo_0 17 rfl rfl)
theorem dX2_isOfTwo_20 : decode cX2_isOfTwo 20 = .ok (.iconst 0, 1) := dk_3 (dk_at dksX2_isOfTwo_0 20 rfl rfl)
theorem dX2_isOfTwo_21 : decode cX2_isOfTwo 21 = .ok (.ireturn, 1) := dk_172 (dk_at dksX2_isOfTwo_0 21 rfl rfl)
abbrev cX2_isOne : ByteArray := prog_45_method_6_code
def yX2_isOne : MethodName := ⟨RX2, "isOne", "(I)Z"⟩
def dkwX2_isOne_1 : List UInt8 := [172]
abbrev dktX2_isOne_1 : List UInt8 := dkwX2_isOne_1 ++ []
def dkwX2_isOne_0 : List UInt8 := [42, 27, 182, 0, 51, 153, 0, 18, 42, 180, 0, 7, 27, 46, 16, 15, 162, 0, 7, 4, 167, 0, 4, 3]
abbrev dktX2_isOne_0 : List UInt8 := dkwX2_isOne_0 ++ dktX2_isOne_1
theorem dksX2_isOne_0 : cX2_isOne.data.toList.drop 0 = dktX2_isOne_0 := by decide +kernel
theorem dksX2_isOne_1 : cX2_isOne.data.toList.drop 24 = dktX2_isOne_1 := dk_seg dksX2_isOne_0 24 rfl rfl
theorem dX2_isOne_0 : decode cX2_isOne 0 = .ok (.aload_n 0, 1) := dk_42 (dk_at dksX2_isOne_0 0 rfl rfl)
theorem dX2_isOne_1 : decode cX2_isOne 1 = .ok (.iload_n 1, 1) := dk_27 (dk_at dksX2_isOne_0 1 rfl rfl)
theorem dX2_isOne_2 : decode cX2_isOne 2 = .ok (.invokevirtual 51, 3) := dk_182 0 51 (dk_at dksX2_isOne_0 2 rfl rfl)
theorem dX2_isOne_5 : decode cX2_isOne 5 = .ok (.ifCond .eq 18, 3) := dk_153 0 18 (dk_at dksX2_isOne_0 5 rfl rfl)
theorem dX2_isOne_8 : decode cX2_isOne 8 = .ok (.aload_n 0, 1) := dk_42 (dk_at dksX2_isOne_0 8 rfl rfl)
theorem dX2_isOne_9 : decode cX2_isOne 9 = .ok (.getfield 7, 3) := dk_180 0 7 (dk_at dksX2_isOne_0 9 rfl rfl)
theorem dX2_isOne_12 : decode cX2_isOne 12 = .ok (.iload_n 1, 1) := dk_27 (dk_at dksX2_isOne_0 12 rfl rfl)
theorem dX2_isOne_13 : decode cX2_isOne 13 = .ok (.iaload, 1) := dk_46 (dk_at dksX2_isOne_0 13 rfl rfl)
theorem dX2_isOne_14 : decode cX2_isOne 14 = .ok (.bipush 15, 2) := dk_16 15 (dk_at dksX2_isOne_0 14 rfl rfl)
theorem dX2_isOne_16 : decode cX2_isOne 16 = .ok (.if_icmp .ge 7, 3) := dk_162 0 7 (dk_at dksX2_isOne_0 16 rfl rfl)
theorem dX2_isOne_19 : decode cX2_isOne 19 = .ok (.iconst 1, 1) := dk_4 (dk_at dksX2_isOne_0 19 rfl rfl)
theorem dX2_isOne_20 : decode cX2_isOne 20 = .ok (.goto 4, 3) := dk_167 0 4 (dk_at dksX2_isOne_0 20 rfl rfl)
theorem dX2_isOne_23 : decode cX2_isOne 23 = .ok (.iconst 0, 1) := dk_3 (dk_at dksX2_isOne_0 23 rfl rfl)
theorem dX2_isOne_24 : decode cX2_isOne 24 = .ok (.ireturn, 1) := dk_172 (dk_at dksX2_isOne_1 0 rfl rfl)
abbrev cX2_isTerm : ByteArray := prog_45_method_5_code
def yX2_isTerm : MethodName := ⟨RX2, "isTerm", "(I)Z"⟩
def dkwX2_isTerm_0 : List UInt8 := [27, 3, 42, 180, 0, 44, 4, 100, 184, 0, 47, 172]
abbrev dktX2_isTerm_0 : List UInt8 := dkwX2_isTerm_0 ++ []
theorem dksX2_isTerm_0 : cX2_isTerm.data.toList.drop 0 = dktX2_isTerm_0 := by decide +kernel
theorem dX2_isTerm_0 : decode cX2_isTerm 0 = .ok (.iload_n 1, 1) := dk_27 (dk_at dksX2_isTerm_0 0 rfl rfl)
theorem dX2_isTerm_1 : decode cX2_isTerm 1 = .ok (.iconst 0, 1) := dk_3 (dk_at dksX2_isTerm_0 1 rfl rfl)
theorem dX2_isTerm_2 : decode cX2_isTerm 2 = .ok (.aload_n 0, 1) := dk_42 (dk_at dksX2_isTerm_0 2 rfl rfl)
theorem dX2_isTerm_3 : decode cX2_isTerm 3 = .ok (.getfield 44, 3) := dk_180 0 44 (dk_at dksX2_isTerm_0 3 rfl rfl)
theorem dX2_isTerm_6 : decode cX2_isTerm 6 = .ok (.iconst 1, 1) := dk_4 (dk_at dksX2_isTerm_0 6 rfl rfl)
theorem dX2_isTerm_7 : decode cX2_isTerm 7 = .ok (.isub, 1) := dk_100 (dk_at dksX2_isTerm_0 7 rfl rfl)
theorem dX2_isTerm_8 : decode cX2_isTerm 8 = .ok (.invokestatic 47, 3) := dk_184 0 47 (dk_at dksX2_isTerm_0 8 rfl rfl)
theorem dX2_isTerm_11 : decode cX2_isTerm 11 = .ok (.ireturn, 1) := dk_172 (dk_at dksX2_isTerm_0 11 rfl rfl)
abbrev cX2_made : ByteArray := prog_45_method_13_code
def yX2_made : MethodName := ⟨RX2, "made", "(IIII)I"⟩
def dkwX2_made_7 : List UInt8 := [182, 0, 59, 153, 0, 16, 42, 27, 3, 28, 29, 21, 7, 182, 0, 63, 167, 0, 4, 3, 172]
abbrev dktX2_made_7 : List UInt8 := dkwX2_made_7 ++ []
def dkwX2_made_6 : List UInt8 := [29, 182, 0, 55, 96, 42, 21, 7, 182, 0, 55, 96, 16, 30, 163, 0, 7, 4, 167, 0, 4, 3]
abbrev dktX2_made_6 : List UInt8 := dkwX2_made_6 ++ dktX2_made_7
def dkwX2_made_5 : List UInt8 := [21, 6, 21, 6, 153, 0, 41, 42, 180, 0, 44, 16, 120, 162, 0, 32, 4, 42, 28, 182, 0, 55, 96, 42]
abbrev dktX2_made_5 : List UInt8 := dkwX2_made_5 ++ dktX2_made_6
def dkwX2_made_4 : List UInt8 := [167, 0, 4, 3, 54, 6, 27, 16, 12, 160, 0, 8, 21, 4, 167, 0, 4, 2, 54, 7, 42, 21, 5]
abbrev dktX2_made_4 : List UInt8 := dkwX2_made_4 ++ dktX2_made_5
def dkwX2_made_3 : List UInt8 := [182, 0, 70, 153, 0, 22, 27, 16, 12, 160, 0, 12, 42, 21, 4, 182, 0, 70, 153, 0, 7, 4]
abbrev dktX2_made_3 : List UInt8 := dkwX2_made_3 ++ dktX2_made_4
def dkwX2_made_2 : List UInt8 := [153, 0, 47, 27, 16, 11, 160, 0, 14, 42, 29, 182, 0, 73, 153, 0, 33, 167, 0, 11, 42, 29]
abbrev dktX2_made_2 : List UInt8 := dkwX2_made_2 ++ dktX2_made_3
def dkwX2_made_1 : List UInt8 := [16, 14, 160, 0, 7, 4, 167, 0, 4, 3, 54, 5, 21, 5, 153, 0, 55, 42, 28, 182, 0, 70]
abbrev dktX2_made_1 : List UInt8 := dkwX2_made_1 ++ dktX2_made_2
def dkwX2_made_0 : List UInt8 := [27, 6, 159, 0, 27, 27, 16, 11, 159, 0, 21, 27, 16, 12, 159, 0, 15, 27, 16, 13, 159, 0, 9, 27]
abbrev dktX2_made_0 : List UInt8 := dkwX2_made_0 ++ dktX2_made_1
theorem dksX2_made_0 : cX2_made.data.toList.drop 0 = dktX2_made_0 := by decide +kernel
theorem dksX2_made_1 : cX2_made.data.toList.drop 24 = dktX2_made_1 := dk_seg dksX2_made_0 24 rfl rfl
theorem dksX2_made_2 : cX2_made.data.toList.drop 46 = dktX2_made_2 := dk_seg dksX2_made_1 22 rfl rfl
theorem dksX2_made_3 : cX2_made.data.toList.drop 68 = dktX2_made_3 := dk_seg dksX2_made_2 22 rfl rfl
theorem dksX2_made_4 : cX2_made.data.toList.drop 90 = dktX2_made_4 := dk_seg dksX2_made_3 22 rfl rfl
theorem dksX2_made_5 : cX2_made.data.toList.drop 113 = dktX2_made_5 := dk_seg dksX2_made_4 23 rfl rfl
theorem dksX2_made_6 : cX2_made.data.toList.drop 137 = dktX2_made_6 := dk_seg dksX2_made_5 24 rfl rfl
theorem dksX2_made_7 : cX2_made.data.toList.drop 159 = dktX2_made_7 := dk_seg dksX2_made_6 22 rfl rfl
theorem dX2_made_0 : decode cX2_made 0 = .ok (.iload_n 1, 1) := dk_27 (dk_at dksX2_made_0 0 rfl rfl)
theorem dX2_made_1 : decode cX2_made 1 = .ok (.iconst 3, 1) := dk_6 (dk_at dksX2_made_0 1 rfl rfl)
theorem dX2_made_2 : decode cX2_made 2 = .ok (.if_icmp .eq 27, 3) := dk_159 0 27 (dk_at dksX2_made_0 2 rfl rfl)
theorem dX2_made_5 : decode cX2_made 5 = .ok (.iload_n 1, 1) := dk_27 (dk_at dksX2_made_0 5 rfl rfl)
theorem dX2_made_6 : decode cX2_made 6 = .ok (.bipush 11, 2) := dk_16 11 (dk_at dksX2_made_0 6 rfl rfl)
theorem dX2_made_8 : decode cX2_made 8 = .ok (.if_icmp .eq 21, 3) := dk_159 0 21 (dk_at dksX2_made_0 8 rfl rfl)
theorem dX2_made_11 : decode cX2_made 11 = .ok (.iload_n 1, 1) := dk_27 (dk_at dksX2_made_0 11 rfl rfl)
theorem dX2_made_12 : decode cX2_made 12 = .ok (.bipush 12, 2) := dk_16 12 (dk_at dksX2_made_0 12 rfl rfl)
theorem dX2_made_14 : decode cX2_made 14 = .ok (.if_icmp .eq 15, 3) := dk_159 0 15 (dk_at dksX2_made_0 14 rfl rfl)
theorem dX2_made_17 : decode cX2_made 17 = .ok (.iload_n 1, 1) := dk_27 (dk_at dksX2_made_0 17 rfl rfl)
theorem dX2_made_18 : decode cX2_made 18 = .ok (.bipush 13, 2) := dk_16 13 (dk_at dksX2_made_0 18 rfl rfl)
theorem dX2_made_20 : decode cX2_made 20 = .ok (.if_icmp .eq 9, 3) := dk_159 0 9 (dk_at dksX2_made_0 20 rfl rfl)
theorem dX2_made_23 : decode cX2_made 23 = .ok (.iload_n 1, 1) := dk_27 (dk_at dksX2_made_0 23 rfl rfl)
theorem dX2_made_24 : decode cX2_made 24 = .ok (.bipush 14, 2) := dk_16 14 (dk_at dksX2_made_1 0 rfl rfl)
theorem dX2_made_26 : decode cX2_made 26 = .ok (.if_icmp .ne 7, 3) := dk_160 0 7 (dk_at dksX2_made_1 2 rfl rfl)
theorem dX2_made_29 : decode cX2_made 29 = .ok (.iconst 1, 1) := dk_4 (dk_at dksX2_made_1 5 rfl rfl)
theorem dX2_made_30 : decode cX2_made 30 = .ok (.goto 4, 3) := dk_167 0 4 (dk_at dksX2_made_1 6 rfl rfl)
theorem dX2_made_33 : decode cX2_made 33 = .ok (.iconst 0, 1) := dk_3 (dk_at dksX2_made_1 9 rfl rfl)
theorem dX2_made_34 : decode cX2_made 34 = .ok (.istore 5, 2) := dk_54 5 (dk_at dksX2_made_1 10 rfl rfl)
theorem dX2_made_36 : decode cX2_made 36 = .ok (.iload 5, 2) := dk_21 5 (dk_at dksX2_made_1 12 rfl rfl)
theorem dX2_made_38 : decode cX2_made 38 = .ok (.ifCond .eq 55, 3) := dk_153 0 55 (dk_at dksX2_made_1 14 rfl rfl)
theorem dX2_made_41 : decode cX2_made 41 = .ok (.aload_n 0, 1) := dk_42 (dk_at dksX2_made_1 17 rfl rfl)
theorem dX2_made_42 : decode cX2_made 42 = .ok (.iload_n 2, 1) := dk_28 (dk_at dksX2_made_1 18 rfl rfl)
theorem dX2_made_43 : decode cX2_made 43 = .ok (.invokevirtual 70, 3) := dk_182 0 70 (dk_at dksX2_made_1 19 rfl rfl)
theorem dX2_made_46 : decode cX2_made 46 = .ok (.ifCond .eq 47, 3) := dk_153 0 47 (dk_at dksX2_made_2 0 rfl rfl)
theorem dX2_made_49 : decode cX2_made 49 = .ok (.iload_n 1, 1) := dk_27 (dk_at dksX2_made_2 3 rfl rfl)
theorem dX2_made_50 : decode cX2_made 50 = .ok (.bipush 11, 2) := dk_16 11 (dk_at dksX2_made_2 4 rfl rfl)
theorem dX2_made_52 : decode cX2_made 52 = .ok (.if_icmp .ne 14, 3) := dk_160 0 14 (dk_at dksX2_made_2 6 rfl rfl)
theorem dX2_made_55 : decode cX2_made 55 = .ok (.aload_n 0, 1) := dk_42 (dk_at dksX2_made_2 9 rfl rfl)
theorem dX2_made_56 : decode cX2_made 56 = .ok (.iload_n 3, 1) := dk_29 (dk_at dksX2_made_2 10 rfl rfl)
theorem dX2_made_57 : decode cX2_made 57 = .ok (.invokevirtual 73, 3) := dk_182 0 73 (dk_at dksX2_made_2 11 rfl rfl)
theorem dX2_made_60 : decode cX2_made 60 = .ok (.ifCond .eq 33, 3) := dk_153 0 33 (dk_at dksX2_made_2 14 rfl rfl)
theorem dX2_made_63 : decode cX2_made 63 = .ok (.goto 11, 3) := dk_167 0 11 (dk_at dksX2_made_2 17 rfl rfl)
theorem dX2_made_66 : decode cX2_made 66 = .ok (.aload_n 0, 1) := dk_42 (dk_at dksX2_made_2 20 rfl rfl)
theorem dX2_made_67 : decode cX2_made 67 = .ok (.iload_n 3, 1) := dk_29 (dk_at dksX2_made_2 21 rfl rfl)
theorem dX2_made_68 : decode cX2_made 68 = .ok (.invokevirtual 70, 3) := dk_182 0 70 (dk_at dksX2_made_3 0 rfl rfl)
theorem dX2_made_71 : decode cX2_made 71 = .ok (.ifCond .eq 22, 3) := dk_153 0 22 (dk_at dksX2_made_3 3 rfl rfl)
theorem dX2_made_74 : decode cX2_made 74 = .ok (.iload_n 1, 1) := dk_27 (dk_at dksX2_made_3 6 rfl rfl)
theorem dX2_made_75 : decode cX2_made 75 = .ok (.bipush 12, 2) := dk_16 12 (dk_at dksX2_made_3 7 rfl rfl)
theorem dX2_made_77 : decode cX2_made 77 = .ok (.if_icmp .ne 12, 3) := dk_160 0 12 (dk_at dksX2_made_3 9 rfl rfl)
theorem dX2_made_80 : decode cX2_made 80 = .ok (.aload_n 0, 1) := dk_42 (dk_at dksX2_made_3 12 rfl rfl)
theorem dX2_made_81 : decode cX2_made 81 = .ok (.iload 4, 2) := dk_21 4 (dk_at dksX2_made_3 13 rfl rfl)
theorem dX2_made_83 : decode cX2_made 83 = .ok (.invokevirtual 70, 3) := dk_182 0 70 (dk_at dksX2_made_3 15 rfl rfl)
theorem dX2_made_86 : decode cX2_made 86 = .ok (.ifCond .eq 7, 3) := dk_153 0 7 (dk_at dksX2_made_3 18 rfl rfl)
theorem dX2_made_89 : decode cX2_made 89 = .ok (.iconst 1, 1) := dk_4 (dk_at dksX2_made_3 21 rfl rfl)
theorem dX2_made_90 : decode cX2_made 90 = .ok (.goto 4, 3) := dk_167 0 4 (dk_at dksX2_made_4 0 rfl rfl)
theorem dX2_made_93 : decode cX2_made 93 = .ok (.iconst 0, 1) := dk_3 (dk_at dksX2_made_4 3 rfl rfl)
theorem dX2_made_94 : decode cX2_made 94 = .ok (.istore 6, 2) := dk_54 6 (dk_at dksX2_made_4 4 rfl rfl)
theorem dX2_made_96 : decode cX2_made 96 = .ok (.iload_n 1, 1) := dk_27 (dk_at dksX2_made_4 6 rfl rfl)
theorem dX2_made_97 : decode cX2_made 97 = .ok (.bipush 12, 2) := dk_16 12 (dk_at dksX2_made_4 7 rfl rfl)
theorem dX2_made_99 : decode cX2_made 99 = .ok (.if_icmp .ne 8, 3) := dk_160 0 8 (dk_at dksX2_made_4 9 rfl rfl)
theorem dX2_made_102 : decode cX2_made 102 = .ok (.iload 4, 2) := dk_21 4 (dk_at dksX2_made_4 12 rfl rfl)
theorem dX2_made_104 : decode cX2_made 104 = .ok (.goto 4, 3) := dk_167 0 4 (dk_at dksX2_made_4 14 rfl rfl)
theorem dX2_made_107 : decode cX2_made 107 = .ok (.iconst (-1), 1) := dk_2 (dk_at dksX2_made_4 17 rfl rfl)
theorem dX2_made_108 : decode cX2_made 108 = .ok (.istore 7, 2) := dk_54 7 (dk_at dksX2_made_4 18 rfl rfl)
theorem dX2_made_110 : decode cX2_made 110 = .ok (.aload_n 0, 1) := dk_42 (dk_at dksX2_made_4 20 rfl rfl)
theorem dX2_made_111 : decode cX2_made 111 = .ok (.iload 5, 2) := dk_21 5 (dk_at dksX2_made_4 21 rfl rfl)
theorem dX2_made_113 : decode cX2_made 113 = .ok (.iload 6, 2) := dk_21 6 (dk_at dksX2_made_5 0 rfl rfl)
theorem dX2_made_115 : decode cX2_made 115 = .ok (.iload 6, 2) := dk_21 6 (dk_at dksX2_made_5 2 rfl rfl)
theorem dX2_made_117 : decode cX2_made 117 = .ok (.ifCond .eq 41, 3) := dk_153 0 41 (dk_at dksX2_made_5 4 rfl rfl)
theorem dX2_made_120 : decode cX2_made 120 = .ok (.aload_n 0, 1) := dk_42 (dk_at dksX2_made_5 7 rfl rfl)
theorem dX2_made_121 : decode cX2_made 121 = .ok (.getfield 44, 3) := dk_180 0 44 (dk_at dksX2_made_5 8 rfl rfl)
theorem dX2_made_124 : decode cX2_made 124 = .ok (.bipush 120, 2) := dk_16 120 (dk_at dksX2_made_5 11 rfl rfl)
theorem dX2_made_126 : decode cX2_made 126 = .ok (.if_icmp .ge 32, 3) := dk_162 0 32 (dk_at dksX2_made_5 13 rfl rfl)
theorem dX2_made_129 : decode cX2_made 129 = .ok (.iconst 1, 1) := dk_4 (dk_at dksX2_made_5 16 rfl rfl)
theorem dX2_made_130 : decode cX2_made 130 = .ok (.aload_n 0, 1) := dk_42 (dk_at dksX2_made_5 17 rfl rfl)
theorem dX2_made_131 : decode cX2_made 131 = .ok (.iload_n 2, 1) := dk_28 (dk_at dksX2_made_5 18 rfl rfl)
theorem dX2_made_132 : decode cX2_made 132 = .ok (.invokevirtual 55, 3) := dk_182 0 55 (dk_at dksX2_made_5 19 rfl rfl)
theorem dX2_made_135 : decode cX2_made 135 = .ok (.iadd, 1) := dk_96 (dk_at dksX2_made_5 22 rfl rfl)
theorem dX2_made_136 : decode cX2_made 136 = .ok (.aload_n 0, 1) := dk_42 (dk_at dksX2_made_5 23 rfl rfl)
theorem dX2_made_137 : decode cX2_made 137 = .ok (.iload_n 3, 1) := dk_29 (dk_at dksX2_made_6 0 rfl rfl)
theorem dX2_made_138 : decode cX2_made 138 = .ok (.invokevirtual 55, 3) := dk_182 0 55 (dk_at dksX2_made_6 1 rfl rfl)
theorem dX2_made_141 : decode cX2_made 141 = .ok (.iadd, 1) := dk_96 (dk_at dksX2_made_6 4 rfl rfl)
theorem dX2_made_142 : decode cX2_made 142 = .ok (.aload_n 0, 1) := dk_42 (dk_at dksX2_made_6 5 rfl rfl)
theorem dX2_made_143 : decode cX2_made 143 = .ok (.iload 7, 2) := dk_21 7 (dk_at dksX2_made_6 6 rfl rfl)
theorem dX2_made_145 : decode cX2_made 145 = .ok (.invokevirtual 55, 3) := dk_182 0 55 (dk_at dksX2_made_6 8 rfl rfl)
theorem dX2_made_148 : decode cX2_made 148 = .ok (.iadd, 1) := dk_96 (dk_at dksX2_made_6 11 rfl rfl)
theorem dX2_made_149 : decode cX2_made 149 = .ok (.bipush 30, 2) := dk_16 30 (dk_at dksX2_made_6 12 rfl rfl)
theorem dX2_made_151 : decode cX2_made 151 = .ok (.if_icmp .gt 7, 3) := dk_163 0 7 (dk_at dksX2_made_6 14 rfl rfl)
theorem dX2_made_154 : decode cX2_made 154 = .ok (.iconst 1, 1) := dk_4 (dk_at dksX2_made_6 17 rfl rfl)
theorem dX2_made_155 : decode cX2_made 155 = .ok (.goto 4, 3) := dk_167 0 4 (dk_at dksX2_made_6 18 rfl rfl)
theorem dX2_made_158 : decode cX2_made 158 = .ok (.iconst 0, 1) := dk_3 (dk_at dksX2_made_6 21 rfl rfl)
theorem dX2_made_159 : decode cX2_made 159 = .ok (.invokevirtual 59, 3) := dk_182 0 59 (dk_at dksX2_made_7 0 rfl rfl)
theorem dX2_made_162 : decode cX2_made 162 = .ok (.ifCond .eq 16, 3) := dk_153 0 16 (dk_at dksX2_made_7 3 rfl rfl)
theorem dX2_made_165 : decode cX2_made 165 = .ok (.aload_n 0, 1) := dk_42 (dk_at dksX2_made_7 6 rfl rfl)
theorem dX2_made_166 : decode cX2_made 166 = .ok (.iload_n 1, 1) := dk_27 (dk_at dksX2_made_7 7 rfl rfl)
theorem dX2_made_167 : decode cX2_made 167 = .ok (.iconst 0, 1) := dk_3 (dk_at dksX2_made_7 8 rfl rfl)
theorem dX2_made_168 : decode cX2_made 168 = .ok (.iload_n 2, 1) := dk_28 (dk_at dksX2_made_7 9 rfl rfl)
theorem dX2_made_169 : decode cX2_made 169 = .ok (.iload_n 3, 1) := dk_29 (dk_at dksX2_made_7 10 rfl rfl)
theorem dX2_made_170 : decode cX2_made 170 = .ok (.iload 7, 2) := dk_21 7 (dk_at dksX2_made_7 11 rfl rfl)
theorem dX2_made_172 : decode cX2_made 172 = .ok (.invokevirtual 63, 3) := dk_182 0 63 (dk_at dksX2_made_7 13 rfl rfl)
theorem dX2_made_175 : decode cX2_made 175 = .ok (.goto 4, 3) := dk_167 0 4 (dk_at dksX2_made_7 16 rfl rfl)
theorem dX2_made_178 : decode cX2_made 178 = .ok (.iconst 0, 1) := dk_3 (dk_at dksX2_made_7 19 rfl rfl)
theorem dX2_made_179 : decode cX2_made 179 = .ok (.ireturn, 1) := dk_172 (dk_at dksX2_made_7 20 rfl rfl)
abbrev cX2_isCases : ByteArray := prog_45_method_7_code
def yX2_isCases : MethodName := ⟨RX2, "isCases", "(I)Z"⟩
def dkwX2_isCases_1 : List UInt8 := [172]
abbrev dktX2_isCases_1 : List UInt8 := dkwX2_isCases_1 ++ []
def dkwX2_isCases_0 : List UInt8 := [42, 27, 182, 0, 51, 153, 0, 18, 42, 180, 0, 7, 27, 46, 16, 15, 161, 0, 7, 4, 167, 0, 4, 3]
abbrev dktX2_isCases_0 : List UInt8 := dkwX2_isCases_0 ++ dktX2_isCases_1
theorem dksX2_isCases_0 : cX2_isCases.data.toList.drop 0 = dktX2_isCases_0 := by decide +kernel
theorem dksX2_isCases_1 : cX2_isCases.data.toList.drop 24 = dktX2_isCases_1 := dk_seg dksX2_isCases_0 24 rfl rfl
theorem dX2_isCases_0 : decode cX2_isCases 0 = .ok (.aload_n 0, 1) := dk_42 (dk_at dksX2_isCases_0 0 rfl rfl)
theorem dX2_isCases_1 : decode cX2_isCases 1 = .ok (.iload_n 1, 1) := dk_27 (dk_at dksX2_isCases_0 1 rfl rfl)
theorem dX2_isCases_2 : decode cX2_isCases 2 = .ok (.invokevirtual 51, 3) := dk_182 0 51 (dk_at dksX2_isCases_0 2 rfl rfl)
theorem dX2_isCases_5 : decode cX2_isCases 5 = .ok (.ifCond .eq 18, 3) := dk_153 0 18 (dk_at dksX2_isCases_0 5 rfl rfl)
theorem dX2_isCases_8 : decode cX2_isCases 8 = .ok (.aload_n 0, 1) := dk_42 (dk_at dksX2_isCases_0 8 rfl rfl)
theorem dX2_isCases_9 : decode cX2_isCases 9 = .ok (.getfield 7, 3) := dk_180 0 7 (dk_at dksX2_isCases_0 9 rfl rfl)
theorem dX2_isCases_12 : decode cX2_isCases 12 = .ok (.iload_n 1, 1) := dk_27 (dk_at dksX2_isCases_0 12 rfl rfl)
theorem dX2_isCases_13 : decode cX2_isCases 13 = .ok (.iaload, 1) := dk_46 (dk_at dksX2_isCases_0 13 rfl rfl)
theorem dX2_isCases_14 : decode cX2_isCases 14 = .ok (.bipush 15, 2) := dk_16 15 (dk_at dksX2_isCases_0 14 rfl rfl)
theorem dX2_isCases_16 : decode cX2_isCases 16 = .ok (.if_icmp .lt 7, 3) := dk_161 0 7 (dk_at dksX2_isCases_0 16 rfl rfl)
theorem dX2_isCases_19 : decode cX2_isCases 19 = .ok (.iconst 1, 1) := dk_4 (dk_at dksX2_isCases_0 19 rfl rfl)
theorem dX2_isCases_20 : decode cX2_isCases 20 = .ok (.goto 4, 3) := dk_167 0 4 (dk_at dksX2_isCases_0 20 rfl rfl)
theorem dX2_isCases_23 : decode cX2_isCases 23 = .ok (.iconst 0, 1) := dk_3 (dk_at dksX2_isCases_0 23 rfl rfl)
theorem dX2_isCases_24 : decode cX2_isCases 24 = .ok (.ireturn, 1) := dk_172 (dk_at dksX2_isCases_1 0 rfl rfl)
abbrev cX2_match : ByteArray := prog_45_method_14_code
def yX2_match : MethodName := ⟨RX2, "match", "(IIII)I"⟩
def dkwX2_match_5 : List UInt8 := [182, 0, 63, 167, 0, 4, 3, 172]
abbrev dktX2_match_5 : List UInt8 := dkwX2_match_5 ++ []
def dkwX2_match_4 : List UInt8 := [4, 167, 0, 4, 3, 182, 0, 59, 153, 0, 22, 42, 16, 17, 16, 10, 27, 104, 28, 96, 29, 21, 4, 2]
abbrev dktX2_match_4 : List UInt8 := dkwX2_match_4 ++ dktX2_match_5
def dkwX2_match_3 : List UInt8 := [16, 120, 162, 0, 26, 4, 42, 29, 182, 0, 55, 96, 42, 21, 4, 182, 0, 55, 96, 16, 30, 163, 0, 7]
abbrev dktX2_match_3 : List UInt8 := dkwX2_match_3 ++ dktX2_match_4
def dkwX2_match_2 : List UInt8 := [153, 0, 7, 4, 167, 0, 4, 3, 54, 6, 42, 21, 5, 21, 6, 21, 6, 153, 0, 35, 42, 180, 0, 44]
abbrev dktX2_match_2 : List UInt8 := dkwX2_match_2 ++ dktX2_match_3
def dkwX2_match_1 : List UInt8 := [3, 54, 5, 21, 5, 153, 0, 24, 42, 29, 182, 0, 70, 153, 0, 16, 42, 21, 4, 182, 0, 73]
abbrev dktX2_match_1 : List UInt8 := dkwX2_match_1 ++ dktX2_match_2
def dkwX2_match_0 : List UInt8 := [27, 3, 16, 9, 184, 0, 47, 153, 0, 17, 28, 3, 16, 9, 184, 0, 47, 153, 0, 7, 4, 167, 0, 4]
abbrev dktX2_match_0 : List UInt8 := dkwX2_match_0 ++ dktX2_match_1
theorem dksX2_match_0 : cX2_match.data.toList.drop 0 = dktX2_match_0 := by decide +kernel
theorem dksX2_match_1 : cX2_match.data.toList.drop 24 = dktX2_match_1 := dk_seg dksX2_match_0 24 rfl rfl
theorem dksX2_match_2 : cX2_match.data.toList.drop 46 = dktX2_match_2 := dk_seg dksX2_match_1 22 rfl rfl
theorem dksX2_match_3 : cX2_match.data.toList.drop 70 = dktX2_match_3 := dk_seg dksX2_match_2 24 rfl rfl
theorem dksX2_match_4 : cX2_match.data.toList.drop 94 = dktX2_match_4 := dk_seg dksX2_match_3 24 rfl rfl
theorem dksX2_match_5 : cX2_match.data.toList.drop 118 = dktX2_match_5 := dk_seg dksX2_match_4 24 rfl rfl
theorem dX2_match_0 : decode cX2_match 0 = .ok (.iload_n 1, 1) := dk_27 (dk_at dksX2_match_0 0 rfl rfl)
theorem dX2_match_1 : decode cX2_match 1 = .ok (.iconst 0, 1) := dk_3 (dk_at dksX2_match_0 1 rfl rfl)
theorem dX2_match_2 : decode cX2_match 2 = .ok (.bipush 9, 2) := dk_16 9 (dk_at dksX2_match_0 2 rfl rfl)
theorem dX2_match_4 : decode cX2_match 4 = .ok (.invokestatic 47, 3) := dk_184 0 47 (dk_at dksX2_match_0 4 rfl rfl)
theorem dX2_match_7 : decode cX2_match 7 = .ok (.ifCond .eq 17, 3) := dk_153 0 17 (dk_at dksX2_match_0 7 rfl rfl)
theorem dX2_match_10 : decode cX2_match 10 = .ok (.iload_n 2, 1) := dk_28 (dk_at dksX2_match_0 10 rfl rfl)
theorem dX2_match_11 : decode cX2_match 11 = .ok (.iconst 0, 1) := dk_3 (dk_at dksX2_match_0 11 rfl rfl)
theorem dX2_match_12 : decode cX2_match 12 = .ok (.bipush 9, 2) := dk_16 9 (dk_at dksX2_match_0 12 rfl rfl)
theorem dX2_match_14 : decode cX2_match 14 = .ok (.invokestatic 47, 3) := dk_184 0 47 (dk_at dksX2_match_0 14 rfl rfl)
theorem dX2_match_17 : decode cX2_match 17 = .ok (.ifCond .eq 7, 3) := dk_153 0 7 (dk_at dksX2_match_0 17 rfl rfl)
theorem dX2_match_20 : decode cX2_match 20 = .ok (.iconst 1, 1) := dk_4 (dk_at dksX2_match_0 20 rfl rfl)
theorem dX2_match_21 : decode cX2_match 21 = .ok (.goto 4, 3) := dk_167 0 4 (dk_at dksX2_match_0 21 rfl rfl)
theorem dX2_match_24 : decode cX2_match 24 = .ok (.iconst 0, 1) := dk_3 (dk_at dksX2_match_1 0 rfl rfl)
theorem dX2_match_25 : decode cX2_match 25 = .ok (.istore 5, 2) := dk_54 5 (dk_at dksX2_match_1 1 rfl rfl)
theorem dX2_match_27 : decode cX2_match 27 = .ok (.iload 5, 2) := dk_21 5 (dk_at dksX2_match_1 3 rfl rfl)
theorem dX2_match_29 : decode cX2_match 29 = .ok (.ifCond .eq 24, 3) := dk_153 0 24 (dk_at dksX2_match_1 5 rfl rfl)
theorem dX2_match_32 : decode cX2_match 32 = .ok (.aload_n 0, 1) := dk_42 (dk_at dksX2_match_1 8 rfl rfl)
theorem dX2_match_33 : decode cX2_match 33 = .ok (.iload_n 3, 1) := dk_29 (dk_at dksX2_match_1 9 rfl rfl)
theorem dX2_match_34 : decode cX2_match 34 = .ok (.invokevirtual 70, 3) := dk_182 0 70 (dk_at dksX2_match_1 10 rfl rfl)
theorem dX2_match_37 : decode cX2_match 37 = .ok (.ifCond .eq 16, 3) := dk_153 0 16 (dk_at dksX2_match_1 13 rfl rfl)
theorem dX2_match_40 : decode cX2_match 40 = .ok (.aload_n 0, 1) := dk_42 (dk_at dksX2_match_1 16 rfl rfl)
theorem dX2_match_41 : decode cX2_match 41 = .ok (.iload 4, 2) := dk_21 4 (dk_at dksX2_match_1 17 rfl rfl)
theorem dX2_match_43 : decode cX2_match 43 = .ok (.invokevirtual 73, 3) := dk_182 0 73 (dk_at dksX2_match_1 19 rfl rfl)
theorem dX2_match_46 : decode cX2_match 46 = .ok (.ifCond .eq 7, 3) := dk_153 0 7 (dk_at dksX2_match_2 0 rfl rfl)
theorem dX2_match_49 : decode cX2_match 49 = .ok (.iconst 1, 1) := dk_4 (dk_at dksX2_match_2 3 rfl rfl)
theorem dX2_match_50 : decode cX2_match 50 = .ok (.goto 4, 3) := dk_167 0 4 (dk_at dksX2_match_2 4 rfl rfl)
theorem dX2_match_53 : decode cX2_match 53 = .ok (.iconst 0, 1) := dk_3 (dk_at dksX2_match_2 7 rfl rfl)
theorem dX2_match_54 : decode cX2_match 54 = .ok (.istore 6, 2) := dk_54 6 (dk_at dksX2_match_2 8 rfl rfl)
theorem dX2_match_56 : decode cX2_match 56 = .ok (.aload_n 0, 1) := dk_42 (dk_at dksX2_match_2 10 rfl rfl)
theorem dX2_match_57 : decode cX2_match 57 = .ok (.iload 5, 2) := dk_21 5 (dk_at dksX2_match_2 11 rfl rfl)
theorem dX2_match_59 : decode cX2_match 59 = .ok (.iload 6, 2) := dk_21 6 (dk_at dksX2_match_2 13 rfl rfl)
theorem dX2_match_61 : decode cX2_match 61 = .ok (.iload 6, 2) := dk_21 6 (dk_at dksX2_match_2 15 rfl rfl)
theorem dX2_match_63 : decode cX2_match 63 = .ok (.ifCond .eq 35, 3) := dk_153 0 35 (dk_at dksX2_match_2 17 rfl rfl)
theorem dX2_match_66 : decode cX2_match 66 = .ok (.aload_n 0, 1) := dk_42 (dk_at dksX2_match_2 20 rfl rfl)
theorem dX2_match_67 : decode cX2_match 67 = .ok (.getfield 44, 3) := dk_180 0 44 (dk_at dksX2_match_2 21 rfl rfl)
theorem dX2_match_70 : decode cX2_match 70 = .ok (.bipush 120, 2) := dk_16 120 (dk_at dksX2_match_3 0 rfl rfl)
theorem dX2_match_72 : decode cX2_match 72 = .ok (.if_icmp .ge 26, 3) := dk_162 0 26 (dk_at dksX2_match_3 2 rfl rfl)
theorem dX2_match_75 : decode cX2_match 75 = .ok (.iconst 1, 1) := dk_4 (dk_at dksX2_match_3 5 rfl rfl)
theorem dX2_match_76 : decode cX2_match 76 = .ok (.aload_n 0, 1) := dk_42 (dk_at dksX2_match_3 6 rfl rfl)
theorem dX2_match_77 : decode cX2_match 77 = .ok (.iload_n 3, 1) := dk_29 (dk_at dksX2_match_3 7 rfl rfl)
theorem dX2_match_78 : decode cX2_match 78 = .ok (.invokevirtual 55, 3) := dk_182 0 55 (dk_at dksX2_match_3 8 rfl rfl)
theorem dX2_match_81 : decode cX2_match 81 = .ok (.iadd, 1) := dk_96 (dk_at dksX2_match_3 11 rfl rfl)
theorem dX2_match_82 : decode cX2_match 82 = .ok (.aload_n 0, 1) := dk_42 (dk_at dksX2_match_3 12 rfl rfl)
theorem dX2_match_83 : decode cX2_match 83 = .ok (.iload 4, 2) := dk_21 4 (dk_at dksX2_match_3 13 rfl rfl)
theorem dX2_match_85 : decode cX2_match 85 = .ok (.invokevirtual 55, 3) := dk_182 0 55 (dk_at dksX2_match_3 15 rfl rfl)
theorem dX2_match_88 : decode cX2_match 88 = .ok (.iadd, 1) := dk_96 (dk_at dksX2_match_3 18 rfl rfl)
theorem dX2_match_89 : decode cX2_match 89 = .ok (.bipush 30, 2) := dk_16 30 (dk_at dksX2_match_3 19 rfl rfl)
theorem dX2_match_91 : decode cX2_match 91 = .ok (.if_icmp .gt 7, 3) := dk_163 0 7 (dk_at dksX2_match_3 21 rfl rfl)
theorem dX2_match_94 : decode cX2_match 94 = .ok (.iconst 1, 1) := dk_4 (dk_at dksX2_match_4 0 rfl rfl)
theorem dX2_match_95 : decode cX2_match 95 = .ok (.goto 4, 3) := dk_167 0 4 (dk_at dksX2_match_4 1 rfl rfl)
theorem dX2_match_98 : decode cX2_match 98 = .ok (.iconst 0, 1) := dk_3 (dk_at dksX2_match_4 4 rfl rfl)
theorem dX2_match_99 : decode cX2_match 99 = .ok (.invokevirtual 59, 3) := dk_182 0 59 (dk_at dksX2_match_4 5 rfl rfl)
theorem dX2_match_102 : decode cX2_match 102 = .ok (.ifCond .eq 22, 3) := dk_153 0 22 (dk_at dksX2_match_4 8 rfl rfl)
theorem dX2_match_105 : decode cX2_match 105 = .ok (.aload_n 0, 1) := dk_42 (dk_at dksX2_match_4 11 rfl rfl)
theorem dX2_match_106 : decode cX2_match 106 = .ok (.bipush 17, 2) := dk_16 17 (dk_at dksX2_match_4 12 rfl rfl)
theorem dX2_match_108 : decode cX2_match 108 = .ok (.bipush 10, 2) := dk_16 10 (dk_at dksX2_match_4 14 rfl rfl)
theorem dX2_match_110 : decode cX2_match 110 = .ok (.iload_n 1, 1) := dk_27 (dk_at dksX2_match_4 16 rfl rfl)
theorem dX2_match_111 : decode cX2_match 111 = .ok (.imul, 1) := dk_104 (dk_at dksX2_match_4 17 rfl rfl)
theorem dX2_match_112 : decode cX2_match 112 = .ok (.iload_n 2, 1) := dk_28 (dk_at dksX2_match_4 18 rfl rfl)
theorem dX2_match_113 : decode cX2_match 113 = .ok (.iadd, 1) := dk_96 (dk_at dksX2_match_4 19 rfl rfl)
theorem dX2_match_114 : decode cX2_match 114 = .ok (.iload_n 3, 1) := dk_29 (dk_at dksX2_match_4 20 rfl rfl)
theorem dX2_match_115 : decode cX2_match 115 = .ok (.iload 4, 2) := dk_21 4 (dk_at dksX2_match_4 21 rfl rfl)
theorem dX2_match_117 : decode cX2_match 117 = .ok (.iconst (-1), 1) := dk_2 (dk_at dksX2_match_4 23 rfl rfl)
theorem dX2_match_118 : decode cX2_match 118 = .ok (.invokevirtual 63, 3) := dk_182 0 63 (dk_at dksX2_match_5 0 rfl rfl)
theorem dX2_match_121 : decode cX2_match 121 = .ok (.goto 4, 3) := dk_167 0 4 (dk_at dksX2_match_5 3 rfl rfl)
theorem dX2_match_124 : decode cX2_match 124 = .ok (.iconst 0, 1) := dk_3 (dk_at dksX2_match_5 6 rfl rfl)
theorem dX2_match_125 : decode cX2_match 125 = .ok (.ireturn, 1) := dk_172 (dk_at dksX2_match_5 7 rfl rfl)
abbrev cX2_terms : ByteArray := prog_45_method_15_code
def yX2_terms : MethodName := ⟨RX2, "terms", "()I"⟩
def dkwX2_terms_0 : List UInt8 := [42, 3, 181, 0, 41, 42, 180, 0, 44, 172]
abbrev dktX2_terms_0 : List UInt8 := dkwX2_terms_0 ++ []
theorem dksX2_terms_0 : cX2_terms.data.toList.drop 0 = dktX2_terms_0 := by decide +kernel
theorem dX2_terms_0 : decode cX2_terms 0 = .ok (.aload_n 0, 1) := dk_42 (dk_at dksX2_terms_0 0 rfl rfl)
theorem dX2_terms_1 : decode cX2_terms 1 = .ok (.iconst 0, 1) := dk_3 (dk_at dksX2_terms_0 1 rfl rfl)
theorem dX2_terms_2 : decode cX2_terms 2 = .ok (.putfield 41, 3) := dk_181 0 41 (dk_at dksX2_terms_0 2 rfl rfl)
theorem dX2_terms_5 : decode cX2_terms 5 = .ok (.aload_n 0, 1) := dk_42 (dk_at dksX2_terms_0 5 rfl rfl)
theorem dX2_terms_6 : decode cX2_terms 6 = .ok (.getfield 44, 3) := dk_180 0 44 (dk_at dksX2_terms_0 6 rfl rfl)
theorem dX2_terms_9 : decode cX2_terms 9 = .ok (.ireturn, 1) := dk_172 (dk_at dksX2_terms_0 9 rfl rfl)
abbrev cX2_check : ByteArray := prog_45_method_41_code
def yX2_check : MethodName := ⟨RX2, "check", "(I)I"⟩
def dkwX2_check_2 : List UInt8 := [42, 180, 1, 9, 181, 0, 28, 42, 180, 1, 32, 172]
abbrev dktX2_check_2 : List UInt8 := dkwX2_check_2 ++ []
def dkwX2_check_1 : List UInt8 := [180, 0, 7, 27, 46, 16, 15, 161, 0, 6, 16, 7, 172, 42, 27, 182, 1, 35, 198, 0, 5, 3, 172, 42]
abbrev dktX2_check_1 : List UInt8 := dkwX2_check_1 ++ dktX2_check_2
def dkwX2_check_0 : List UInt8 := [42, 42, 27, 182, 0, 51, 4, 4, 182, 0, 59, 154, 0, 5, 3, 172, 42, 2, 181, 0, 28, 42]
abbrev dktX2_check_0 : List UInt8 := dkwX2_check_0 ++ dktX2_check_1
theorem dksX2_check_0 : cX2_check.data.toList.drop 0 = dktX2_check_0 := by decide +kernel
theorem dksX2_check_1 : cX2_check.data.toList.drop 22 = dktX2_check_1 := dk_seg dksX2_check_0 22 rfl rfl
theorem dksX2_check_2 : cX2_check.data.toList.drop 46 = dktX2_check_2 := dk_seg dksX2_check_1 24 rfl rfl
theorem dX2_check_0 : decode cX2_check 0 = .ok (.aload_n 0, 1) := dk_42 (dk_at dksX2_check_0 0 rfl rfl)
theorem dX2_check_1 : decode cX2_check 1 = .ok (.aload_n 0, 1) := dk_42 (dk_at dksX2_check_0 1 rfl rfl)
theorem dX2_check_2 : decode cX2_check 2 = .ok (.iload_n 1, 1) := dk_27 (dk_at dksX2_check_0 2 rfl rfl)
theorem dX2_check_3 : decode cX2_check 3 = .ok (.invokevirtual 51, 3) := dk_182 0 51 (dk_at dksX2_check_0 3 rfl rfl)
theorem dX2_check_6 : decode cX2_check 6 = .ok (.iconst 1, 1) := dk_4 (dk_at dksX2_check_0 6 rfl rfl)
theorem dX2_check_7 : decode cX2_check 7 = .ok (.iconst 1, 1) := dk_4 (dk_at dksX2_check_0 7 rfl rfl)
theorem dX2_check_8 : decode cX2_check 8 = .ok (.invokevirtual 59, 3) := dk_182 0 59 (dk_at dksX2_check_0 8 rfl rfl)
theorem dX2_check_11 : decode cX2_check 11 = .ok (.ifCond .ne 5, 3) := dk_154 0 5 (dk_at dksX2_check_0 11 rfl rfl)
theorem dX2_check_14 : decode cX2_check 14 = .ok (.iconst 0, 1) := dk_3 (dk_at dksX2_check_0 14 rfl rfl)
theorem dX2_check_15 : decode cX2_check 15 = .ok (.ireturn, 1) := dk_172 (dk_at dksX2_check_0 15 rfl rfl)
theorem dX2_check_16 : decode cX2_check 16 = .ok (.aload_n 0, 1) := dk_42 (dk_at dksX2_check_0 16 rfl rfl)
theorem dX2_check_17 : decode cX2_check 17 = .ok (.iconst (-1), 1) := dk_2 (dk_at dksX2_check_0 17 rfl rfl)
theorem dX2_check_18 : decode cX2_check 18 = .ok (.putfield 28, 3) := dk_181 0 28 (dk_at dksX2_check_0 18 rfl rfl)
theorem dX2_check_21 : decode cX2_check 21 = .ok (.aload_n 0, 1) := dk_42 (dk_at dksX2_check_0 21 rfl rfl)
theorem dX2_check_22 : decode cX2_check 22 = .ok (.getfield 7, 3) := dk_180 0 7 (dk_at dksX2_check_1 0 rfl rfl)
theorem dX2_check_25 : decode cX2_check 25 = .ok (.iload_n 1, 1) := dk_27 (dk_at dksX2_check_1 3 rfl rfl)
theorem dX2_check_26 : decode cX2_check 26 = .ok (.iaload, 1) := dk_46 (dk_at dksX2_check_1 4 rfl rfl)
theorem dX2_check_27 : decode cX2_check 27 = .ok (.bipush 15, 2) := dk_16 15 (dk_at dksX2_check_1 5 rfl rfl)
theorem dX2_check_29 : decode cX2_check 29 = .ok (.if_icmp .lt 6, 3) := dk_161 0 6 (dk_at dksX2_check_1 7 rfl rfl)
theorem dX2_check_32 : decode cX2_check 32 = .ok (.bipush 7, 2) := dk_16 7 (dk_at dksX2_check_1 10 rfl rfl)
theorem dX2_check_34 : decode cX2_check 34 = .ok (.ireturn, 1) := dk_172 (dk_at dksX2_check_1 12 rfl rfl)
theorem dX2_check_35 : decode cX2_check 35 = .ok (.aload_n 0, 1) := dk_42 (dk_at dksX2_check_1 13 rfl rfl)
theorem dX2_check_36 : decode cX2_check 36 = .ok (.iload_n 1, 1) := dk_27 (dk_at dksX2_check_1 14 rfl rfl)
theorem dX2_check_37 : decode cX2_check 37 = .ok (.invokevirtual 291, 3) := dk_182 1 35 (dk_at dksX2_check_1 15 rfl rfl)
theorem dX2_check_40 : decode cX2_check 40 = .ok (.ifnull 5, 3) := dk_198 0 5 (dk_at dksX2_check_1 18 rfl rfl)
theorem dX2_check_43 : decode cX2_check 43 = .ok (.iconst 0, 1) := dk_3 (dk_at dksX2_check_1 21 rfl rfl)
theorem dX2_check_44 : decode cX2_check 44 = .ok (.ireturn, 1) := dk_172 (dk_at dksX2_check_1 22 rfl rfl)
theorem dX2_check_45 : decode cX2_check 45 = .ok (.aload_n 0, 1) := dk_42 (dk_at dksX2_check_1 23 rfl rfl)
theorem dX2_check_46 : decode cX2_check 46 = .ok (.aload_n 0, 1) := dk_42 (dk_at dksX2_check_2 0 rfl rfl)
theorem dX2_check_47 : decode cX2_check 47 = .ok (.getfield 265, 3) := dk_180 1 9 (dk_at dksX2_check_2 1 rfl rfl)
theorem dX2_check_50 : decode cX2_check 50 = .ok (.putfield 28, 3) := dk_181 0 28 (dk_at dksX2_check_2 4 rfl rfl)
theorem dX2_check_53 : decode cX2_check 53 = .ok (.aload_n 0, 1) := dk_42 (dk_at dksX2_check_2 7 rfl rfl)
theorem dX2_check_54 : decode cX2_check 54 = .ok (.getfield 288, 3) := dk_180 1 32 (dk_at dksX2_check_2 8 rfl rfl)
theorem dX2_check_57 : decode cX2_check 57 = .ok (.ireturn, 1) := dk_172 (dk_at dksX2_check_2 11 rfl rfl)
abbrev cX2_typeOf : ByteArray := prog_45_method_40_code
def yX2_typeOf : MethodName := ⟨RX2, "typeOf", "(I)LRowenTongueModel$Type;"⟩
def dkwX2_typeOf_2 : List UInt8 := [180, 1, 29, 181, 1, 32, 1, 176]
abbrev dktX2_typeOf_2 : List UInt8 := dkwX2_typeOf_2 ++ []
def dkwX2_typeOf_1 : List UInt8 := [180, 0, 7, 27, 46, 16, 15, 161, 0, 5, 1, 176, 42, 27, 1, 182, 1, 15, 176, 77, 42, 44]
abbrev dktX2_typeOf_1 : List UInt8 := dkwX2_typeOf_1 ++ dktX2_typeOf_2
def dkwX2_typeOf_0 : List UInt8 := [3, 61, 28, 16, 120, 162, 0, 16, 42, 180, 0, 38, 28, 2, 79, 132, 2, 1, 167, 255, 240, 42]
abbrev dktX2_typeOf_0 : List UInt8 := dkwX2_typeOf_0 ++ dktX2_typeOf_1
theorem dksX2_typeOf_0 : cX2_typeOf.data.toList.drop 0 = dktX2_typeOf_0 := by decide +kernel
theorem dksX2_typeOf_1 : cX2_typeOf.data.toList.drop 22 = dktX2_typeOf_1 := dk_seg dksX2_typeOf_0 22 rfl rfl
theorem dksX2_typeOf_2 : cX2_typeOf.data.toList.drop 44 = dktX2_typeOf_2 := dk_seg dksX2_typeOf_1 22 rfl rfl
theorem dX2_typeOf_0 : decode cX2_typeOf 0 = .ok (.iconst 0, 1) := dk_3 (dk_at dksX2_typeOf_0 0 rfl rfl)
theorem dX2_typeOf_1 : decode cX2_typeOf 1 = .ok (.istore_n 2, 1) := dk_61 (dk_at dksX2_typeOf_0 1 rfl rfl)
theorem dX2_typeOf_2 : decode cX2_typeOf 2 = .ok (.iload_n 2, 1) := dk_28 (dk_at dksX2_typeOf_0 2 rfl rfl)
theorem dX2_typeOf_3 : decode cX2_typeOf 3 = .ok (.bipush 120, 2) := dk_16 120 (dk_at dksX2_typeOf_0 3 rfl rfl)
theorem dX2_typeOf_5 : decode cX2_typeOf 5 = .ok (.if_icmp .ge 16, 3) := dk_162 0 16 (dk_at dksX2_typeOf_0 5 rfl rfl)
theorem dX2_typeOf_8 : decode cX2_typeOf 8 = .ok (.aload_n 0, 1) := dk_42 (dk_at dksX2_typeOf_0 8 rfl rfl)
theorem dX2_typeOf_9 : decode cX2_typeOf 9 = .ok (.getfield 38, 3) := dk_180 0 38 (dk_at dksX2_typeOf_0 9 rfl rfl)
theorem dX2_typeOf_12 : decode cX2_typeOf 12 = .ok (.iload_n 2, 1) := dk_28 (dk_at dksX2_typeOf_0 12 rfl rfl)
theorem dX2_typeOf_13 : decode cX2_typeOf 13 = .ok (.iconst (-1), 1) := dk_2 (dk_at dksX2_typeOf_0 13 rfl rfl)
theorem dX2_typeOf_14 : decode cX2_typeOf 14 = .ok (.iastore, 1) := dk_79 (dk_at dksX2_typeOf_0 14 rfl rfl)
theorem dX2_typeOf_15 : decode cX2_typeOf 15 = .ok (.iinc 2 1, 3) := dk_132 2 1 (dk_at dksX2_typeOf_0 15 rfl rfl)
theorem dX2_typeOf_18 : decode cX2_typeOf 18 = .ok (.goto (-16), 3) := dk_167 255 240 (dk_at dksX2_typeOf_0 18 rfl rfl)
theorem dX2_typeOf_21 : decode cX2_typeOf 21 = .ok (.aload_n 0, 1) := dk_42 (dk_at dksX2_typeOf_0 21 rfl rfl)
theorem dX2_typeOf_22 : decode cX2_typeOf 22 = .ok (.getfield 7, 3) := dk_180 0 7 (dk_at dksX2_typeOf_1 0 rfl rfl)
theorem dX2_typeOf_25 : decode cX2_typeOf 25 = .ok (.iload_n 1, 1) := dk_27 (dk_at dksX2_typeOf_1 3 rfl rfl)
theorem dX2_typeOf_26 : decode cX2_typeOf 26 = .ok (.iaload, 1) := dk_46 (dk_at dksX2_typeOf_1 4 rfl rfl)
theorem dX2_typeOf_27 : decode cX2_typeOf 27 = .ok (.bipush 15, 2) := dk_16 15 (dk_at dksX2_typeOf_1 5 rfl rfl)
theorem dX2_typeOf_29 : decode cX2_typeOf 29 = .ok (.if_icmp .lt 5, 3) := dk_161 0 5 (dk_at dksX2_typeOf_1 7 rfl rfl)
theorem dX2_typeOf_32 : decode cX2_typeOf 32 = .ok (.aconst_null, 1) := dk_1 (dk_at dksX2_typeOf_1 10 rfl rfl)
theorem dX2_typeOf_33 : decode cX2_typeOf 33 = .ok (.areturn, 1) := dk_176 (dk_at dksX2_typeOf_1 11 rfl rfl)
theorem dX2_typeOf_34 : decode cX2_typeOf 34 = .ok (.aload_n 0, 1) := dk_42 (dk_at dksX2_typeOf_1 12 rfl rfl)
theorem dX2_typeOf_35 : decode cX2_typeOf 35 = .ok (.iload_n 1, 1) := dk_27 (dk_at dksX2_typeOf_1 13 rfl rfl)
theorem dX2_typeOf_36 : decode cX2_typeOf 36 = .ok (.aconst_null, 1) := dk_1 (dk_at dksX2_typeOf_1 14 rfl rfl)
theorem dX2_typeOf_37 : decode cX2_typeOf 37 = .ok (.invokevirtual 271, 3) := dk_182 1 15 (dk_at dksX2_typeOf_1 15 rfl rfl)
theorem dX2_typeOf_40 : decode cX2_typeOf 40 = .ok (.areturn, 1) := dk_176 (dk_at dksX2_typeOf_1 18 rfl rfl)
theorem dX2_typeOf_41 : decode cX2_typeOf 41 = .ok (.astore_n 2, 1) := dk_77 (dk_at dksX2_typeOf_1 19 rfl rfl)
theorem dX2_typeOf_42 : decode cX2_typeOf 42 = .ok (.aload_n 0, 1) := dk_42 (dk_at dksX2_typeOf_1 20 rfl rfl)
theorem dX2_typeOf_43 : decode cX2_typeOf 43 = .ok (.aload_n 2, 1) := dk_44 (dk_at dksX2_typeOf_1 21 rfl rfl)
theorem dX2_typeOf_44 : decode cX2_typeOf 44 = .ok (.getfield 285, 3) := dk_180 1 29 (dk_at dksX2_typeOf_2 0 rfl rfl)
theorem dX2_typeOf_47 : decode cX2_typeOf 47 = .ok (.putfield 288, 3) := dk_181 1 32 (dk_at dksX2_typeOf_2 3 rfl rfl)
theorem dX2_typeOf_50 : decode cX2_typeOf 50 = .ok (.aconst_null, 1) := dk_1 (dk_at dksX2_typeOf_2 6 rfl rfl)
theorem dX2_typeOf_51 : decode cX2_typeOf 51 = .ok (.areturn, 1) := dk_176 (dk_at dksX2_typeOf_2 7 rfl rfl)
abbrev cX2_found : ByteArray := prog_45_method_37_code
def yX2_found : MethodName := ⟨RX2, "found", "(ILRowenTongueModel$Known;)LRowenTongueModel$Type;"⟩
def dkwX2_found_21 : List UInt8 := [27, 44, 182, 1, 23, 176, 42, 27, 44, 182, 1, 26, 176]
abbrev dktX2_found_21 : List UInt8 := dkwX2_found_21 ++ []
def dkwX2_found_20 : List UInt8 := [25, 4, 45, 182, 0, 155, 45, 42, 182, 0, 144, 184, 0, 139, 187, 0, 76, 89, 4, 183, 0, 78, 176, 42]
abbrev dktX2_found_20 : List UInt8 := dkwX2_found_20 ++ dktX2_found_21
def dkwX2_found_19 : List UInt8 := [182, 1, 15, 78, 42, 42, 180, 0, 19, 27, 46, 44, 182, 1, 15, 58, 4, 42, 27, 181, 1, 9, 42]
abbrev dktX2_found_19 : List UInt8 := dkwX2_found_19 ++ dktX2_found_20
def dkwX2_found_18 : List UInt8 := [4, 183, 0, 78, 182, 0, 155, 187, 0, 76, 89, 4, 183, 0, 78, 176, 42, 42, 180, 0, 16, 27, 46, 44]
abbrev dktX2_found_18 : List UInt8 := dkwX2_found_18 ++ dktX2_found_19
def dkwX2_found_17 : List UInt8 := [27, 181, 1, 9, 42, 45, 187, 0, 76, 89, 4, 183, 0, 78, 182, 0, 155, 42, 25, 4, 187, 0, 76, 89]
abbrev dktX2_found_17 : List UInt8 := dkwX2_found_17 ++ dktX2_found_18
def dkwX2_found_16 : List UInt8 := [180, 0, 16, 27, 46, 44, 182, 1, 15, 78, 42, 42, 180, 0, 19, 27, 46, 44, 182, 1, 15, 58, 4, 42]
abbrev dktX2_found_16 : List UInt8 := dkwX2_found_16 ++ dktX2_found_17
def dkwX2_found_15 : List UInt8 := [46, 44, 182, 1, 15, 58, 4, 42, 27, 181, 1, 9, 42, 25, 4, 45, 182, 0, 155, 45, 176, 42, 42]
abbrev dktX2_found_15 : List UInt8 := dkwX2_found_15 ++ dktX2_found_16
def dkwX2_found_14 : List UInt8 := [183, 0, 78, 182, 0, 155, 42, 42, 180, 0, 19, 27, 46, 44, 182, 1, 15, 78, 42, 42, 180, 0, 22, 27]
abbrev dktX2_found_14 : List UInt8 := dkwX2_found_14 ++ dktX2_found_15
def dkwX2_found_13 : List UInt8 := [180, 0, 16, 27, 46, 44, 182, 1, 15, 78, 42, 27, 181, 1, 9, 42, 45, 187, 0, 76, 89, 4]
abbrev dktX2_found_13 : List UInt8 := dkwX2_found_13 ++ dktX2_found_14
def dkwX2_found_12 : List UInt8 := [182, 0, 155, 42, 42, 180, 0, 19, 27, 46, 42, 27, 45, 44, 182, 1, 19, 182, 1, 15, 176, 42, 42]
abbrev dktX2_found_12 : List UInt8 := dkwX2_found_12 ++ dktX2_found_13
def dkwX2_found_11 : List UInt8 := [180, 0, 13, 27, 46, 25, 4, 44, 183, 0, 206, 182, 1, 15, 78, 42, 27, 181, 1, 9, 42, 45, 25, 4]
abbrev dktX2_found_11 : List UInt8 := dkwX2_found_11 ++ dktX2_found_12
def dkwX2_found_10 : List UInt8 := [176, 187, 0, 76, 89, 3, 183, 0, 78, 58, 4, 42, 42, 180, 0, 16, 27, 46, 187, 0, 204, 89, 42]
abbrev dktX2_found_10 : List UInt8 := dkwX2_found_10 ++ dktX2_found_11
def dkwX2_found_9 : List UInt8 := [27, 46, 44, 182, 1, 15, 78, 42, 42, 180, 0, 19, 27, 46, 42, 27, 45, 44, 182, 1, 19, 182, 1, 15]
abbrev dktX2_found_9 : List UInt8 := dkwX2_found_9 ++ dktX2_found_10
def dkwX2_found_8 : List UInt8 := [27, 181, 1, 9, 42, 45, 25, 4, 25, 6, 184, 0, 242, 182, 0, 155, 25, 6, 176, 42, 42, 180, 0, 16]
abbrev dktX2_found_8 : List UInt8 := dkwX2_found_8 ++ dktX2_found_9
def dkwX2_found_7 : List UInt8 := [42, 42, 180, 0, 19, 27, 46, 44, 182, 1, 15, 58, 4, 187, 0, 76, 89, 3, 183, 0, 78, 58, 6, 42]
abbrev dktX2_found_7 : List UInt8 := dkwX2_found_7 ++ dktX2_found_8
def dkwX2_found_6 : List UInt8 := [45, 44, 183, 0, 206, 182, 1, 15, 184, 0, 242, 176, 42, 42, 180, 0, 16, 27, 46, 44, 182, 1, 15, 78]
abbrev dktX2_found_6 : List UInt8 := dkwX2_found_6 ++ dktX2_found_7
def dkwX2_found_5 : List UInt8 := [89, 3, 183, 0, 78, 78, 45, 42, 42, 180, 0, 16, 27, 46, 187, 0, 204, 89, 42, 180, 0, 13, 27, 46]
abbrev dktX2_found_5 : List UInt8 := dkwX2_found_5 ++ dktX2_found_6
def dkwX2_found_4 : List UInt8 := [25, 5, 199, 0, 12, 187, 0, 132, 89, 4, 183, 0, 134, 191, 42, 25, 5, 182, 1, 12, 176, 187, 0, 76]
abbrev dktX2_found_4 : List UInt8 := dkwX2_found_4 ++ dktX2_found_5
def dkwX2_found_3 : List UInt8 := [180, 0, 13, 27, 46, 159, 0, 13, 25, 5, 180, 0, 211, 58, 5, 167, 255, 230, 42, 27, 181, 1, 9]
abbrev dktX2_found_3 : List UInt8 := dkwX2_found_3 ++ dktX2_found_4
def dkwX2_found_2 : List UInt8 := [187, 0, 76, 89, 4, 183, 0, 78, 176, 44, 58, 5, 25, 5, 198, 0, 27, 25, 5, 180, 1, 6, 42]
abbrev dktX2_found_2 : List UInt8 := dkwX2_found_2 ++ dktX2_found_3
def dkwX2_found_1 : List UInt8 := [170, 0, 0, 0, 2, 16, 0, 0, 0, 0, 0, 0, 0, 14, 0, 0, 0, 74, 0, 0, 0, 83, 0, 0, 0, 141, 0, 0, 0, 180, 0, 0, 0, 235, 0, 0, 1, 9, 0, 0, 2, 16, 0, 0, 2, 16, 0, 0, 2, 16, 0, 0, 2, 16, 0, 0, 2, 16, 0, 0, 2, 9, 0, 0, 1, 76, 0, 0, 1, 145, 0, 0, 1, 211]
abbrev dktX2_found_1 : List UInt8 := dkwX2_found_1 ++ dktX2_found_2
def dkwX2_found_0 : List UInt8 := [42, 180, 0, 7, 27, 46]
abbrev dktX2_found_0 : List UInt8 := dkwX2_found_0 ++ dktX2_found_1
theorem dksX2_found_0 : cX2_found.data.toList.drop 0 = dktX2_found_0 := by decide +kernel
theorem dksX2_found_1 : cX2_found.data.toList.drop 6 = dktX2_found_1 := dk_seg dksX2_found_0 6 rfl rfl
theorem dksX2_found_2 : cX2_found.data.toList.drop 80 = dktX2_found_2 := dk_seg dksX2_found_1 74 rfl rfl
theorem dksX2_found_3 : cX2_found.data.toList.drop 103 = dktX2_found_3 := dk_seg dksX2_found_2 23 rfl rfl
theorem dksX2_found_4 : cX2_found.data.toList.drop 126 = dktX2_found_4 := dk_seg dksX2_found_3 23 rfl rfl
theorem dksX2_found_5 : cX2_found.data.toList.drop 150 = dktX2_found_5 := dk_seg dksX2_found_4 24 rfl rfl
theorem dksX2_found_6 : cX2_found.data.toList.drop 174 = dktX2_found_6 := dk_seg dksX2_found_5 24 rfl rfl
theorem dksX2_found_7 : cX2_found.data.toList.drop 198 = dktX2_found_7 := dk_seg dksX2_found_6 24 rfl rfl
theorem dksX2_found_8 : cX2_found.data.toList.drop 222 = dktX2_found_8 := dk_seg dksX2_found_7 24 rfl rfl
theorem dksX2_found_9 : cX2_found.data.toList.drop 246 = dktX2_found_9 := dk_seg dksX2_found_8 24 rfl rfl
theorem dksX2_found_10 : cX2_found.data.toList.drop 270 = dktX2_found_10 := dk_seg dksX2_found_9 24 rfl rfl
theorem dksX2_found_11 : cX2_found.data.toList.drop 293 = dktX2_found_11 := dk_seg dksX2_found_10 23 rfl rfl
theorem dksX2_found_12 : cX2_found.data.toList.drop 317 = dktX2_found_12 := dk_seg dksX2_found_11 24 rfl rfl
theorem dksX2_found_13 : cX2_found.data.toList.drop 340 = dktX2_found_13 := dk_seg dksX2_found_12 23 rfl rfl
theorem dksX2_found_14 : cX2_found.data.toList.drop 362 = dktX2_found_14 := dk_seg dksX2_found_13 22 rfl rfl
theorem dksX2_found_15 : cX2_found.data.toList.drop 386 = dktX2_found_15 := dk_seg dksX2_found_14 24 rfl rfl
theorem dksX2_found_16 : cX2_found.data.toList.drop 409 = dktX2_found_16 := dk_seg dksX2_found_15 23 rfl rfl
theorem dksX2_found_17 : cX2_found.data.toList.drop 433 = dktX2_found_17 := dk_seg dksX2_found_16 24 rfl rfl
theorem dksX2_found_18 : cX2_found.data.toList.drop 457 = dktX2_found_18 := dk_seg dksX2_found_17 24 rfl rfl
theorem dksX2_found_19 : cX2_found.data.toList.drop 481 = dktX2_found_19 := dk_seg dksX2_found_18 24 rfl rfl
theorem dksX2_found_20 : cX2_found.data.toList.drop 504 = dktX2_found_20 := dk_seg dksX2_found_19 23 rfl rfl
theorem dksX2_found_21 : cX2_found.data.toList.drop 528 = dktX2_found_21 := dk_seg dksX2_found_20 24 rfl rfl
theorem dX2_found_0 : decode cX2_found 0 = .ok (.aload_n 0, 1) := dk_42 (dk_at dksX2_found_0 0 rfl rfl)
theorem dX2_found_1 : decode cX2_found 1 = .ok (.getfield 7, 3) := dk_180 0 7 (dk_at dksX2_found_0 1 rfl rfl)
theorem dX2_found_4 : decode cX2_found 4 = .ok (.iload_n 1, 1) := dk_27 (dk_at dksX2_found_0 4 rfl rfl)
theorem dX2_found_5 : decode cX2_found 5 = .ok (.iaload, 1) := dk_46 (dk_at dksX2_found_0 5 rfl rfl)
theorem dX2_found_6 : decode cX2_found 6 = .ok (.tableswitch 528 0 14 #[74, 83, 141, 180, 235, 265, 528, 528, 528, 528, 528, 521, 332, 401, 467], 74) := by decide +kernel
theorem dX2_found_80 : decode cX2_found 80 = .ok (.new 76, 3) := dk_187 0 76 (dk_at dksX2_found_2 0 rfl rfl)
theorem dX2_found_83 : decode cX2_found 83 = .ok (.dup, 1) := dk_89 (dk_at dksX2_found_2 3 rfl rfl)
theorem dX2_found_84 : decode cX2_found 84 = .ok (.iconst 1, 1) := dk_4 (dk_at dksX2_found_2 4 rfl rfl)
theorem dX2_found_85 : decode cX2_found 85 = .ok (.invokespecial 78, 3) := dk_183 0 78 (dk_at dksX2_found_2 5 rfl rfl)
theorem dX2_found_88 : decode cX2_found 88 = .ok (.areturn, 1) := dk_176 (dk_at dksX2_found_2 8 rfl rfl)
theorem dX2_found_89 : decode cX2_found 89 = .ok (.aload_n 2, 1) := dk_44 (dk_at dksX2_found_2 9 rfl rfl)
theorem dX2_found_90 : decode cX2_found 90 = .ok (.astore 5, 2) := dk_58 5 (dk_at dksX2_found_2 10 rfl rfl)
theorem dX2_found_92 : decode cX2_found 92 = .ok (.aload 5, 2) := dk_25 5 (dk_at dksX2_found_2 12 rfl rfl)
theorem dX2_found_94 : decode cX2_found 94 = .ok (.ifnull 27, 3) := dk_198 0 27 (dk_at dksX2_found_2 14 rfl rfl)
theorem dX2_found_97 : decode cX2_found 97 = .ok (.aload 5, 2) := dk_25 5 (dk_at dksX2_found_2 17 rfl rfl)
theorem dX2_found_99 : decode cX2_found 99 = .ok (.getfield 262, 3) := dk_180 1 6 (dk_at dksX2_found_2 19 rfl rfl)
theorem dX2_found_102 : decode cX2_found 102 = .ok (.aload_n 0, 1) := dk_42 (dk_at dksX2_found_2 22 rfl rfl)
theorem dX2_found_103 : decode cX2_found 103 = .ok (.getfield 13, 3) := dk_180 0 13 (dk_at dksX2_found_3 0 rfl rfl)
theorem dX2_found_106 : decode cX2_found 106 = .ok (.iload_n 1, 1) := dk_27 (dk_at dksX2_found_3 3 rfl rfl)
theorem dX2_found_107 : decode cX2_found 107 = .ok (.iaload, 1) := dk_46 (dk_at dksX2_found_3 4 rfl rfl)
theorem dX2_found_108 : decode cX2_found 108 = .ok (.if_icmp .eq 13, 3) := dk_159 0 13 (dk_at dksX2_found_3 5 rfl rfl)
theorem dX2_found_111 : decode cX2_found 111 = .ok (.aload 5, 2) := dk_25 5 (dk_at dksX2_found_3 8 rfl rfl)
theorem dX2_found_113 : decode cX2_found 113 = .ok (.getfield 211, 3) := dk_180 0 211 (dk_at dksX2_found_3 10 rfl rfl)
theorem dX2_found_116 : decode cX2_found 116 = .ok (.astore 5, 2) := dk_58 5 (dk_at dksX2_found_3 13 rfl rfl)
theorem dX2_found_118 : decode cX2_found 118 = .ok (.goto (-26), 3) := dk_167 255 230 (dk_at dksX2_found_3 15 rfl rfl)
theorem dX2_found_121 : decode cX2_found 121 = .ok (.aload_n 0, 1) := dk_42 (dk_at dksX2_found_3 18 rfl rfl)
theorem dX2_found_122 : decode cX2_found 122 = .ok (.iload_n 1, 1) := dk_27 (dk_at dksX2_found_3 19 rfl rfl)
theorem dX2_found_123 : decode cX2_found 123 = .ok (.putfield 265, 3) := dk_181 1 9 (dk_at dksX2_found_3 20 rfl rfl)
theorem dX2_found_126 : decode cX2_found 126 = .ok (.aload 5, 2) := dk_25 5 (dk_at dksX2_found_4 0 rfl rfl)
theorem dX2_found_128 : decode cX2_found 128 = .ok (.ifnonnull 12, 3) := dk_199 0 12 (dk_at dksX2_found_4 2 rfl rfl)
theorem dX2_found_131 : decode cX2_found 131 = .ok (.new 132, 3) := dk_187 0 132 (dk_at dksX2_found_4 5 rfl rfl)
theorem dX2_found_134 : decode cX2_found 134 = .ok (.dup, 1) := dk_89 (dk_at dksX2_found_4 8 rfl rfl)
theorem dX2_found_135 : decode cX2_found 135 = .ok (.iconst 1, 1) := dk_4 (dk_at dksX2_found_4 9 rfl rfl)
theorem dX2_found_136 : decode cX2_found 136 = .ok (.invokespecial 134, 3) := dk_183 0 134 (dk_at dksX2_found_4 10 rfl rfl)
theorem dX2_found_139 : decode cX2_found 139 = .ok (.athrow, 1) := dk_191 (dk_at dksX2_found_4 13 rfl rfl)
theorem dX2_found_140 : decode cX2_found 140 = .ok (.aload_n 0, 1) := dk_42 (dk_at dksX2_found_4 14 rfl rfl)
theorem dX2_found_141 : decode cX2_found 141 = .ok (.aload 5, 2) := dk_25 5 (dk_at dksX2_found_4 15 rfl rfl)
theorem dX2_found_143 : decode cX2_found 143 = .ok (.invokevirtual 268, 3) := dk_182 1 12 (dk_at dksX2_found_4 17 rfl rfl)
theorem dX2_found_146 : decode cX2_found 146 = .ok (.areturn, 1) := dk_176 (dk_at dksX2_found_4 20 rfl rfl)
theorem dX2_found_147 : decode cX2_found 147 = .ok (.new 76, 3) := dk_187 0 76 (dk_at dksX2_found_4 21 rfl rfl)
theorem dX2_found_150 : decode cX2_found 150 = .ok (.dup, 1) := dk_89 (dk_at dksX2_found_5 0 rfl rfl)
theorem dX2_found_151 : decode cX2_found 151 = .ok (.iconst 0, 1) := dk_3 (dk_at dksX2_found_5 1 rfl rfl)
theorem dX2_found_152 : decode cX2_found 152 = .ok (.invokespecial 78, 3) := dk_183 0 78 (dk_at dksX2_found_5 2 rfl rfl)
theorem dX2_found_155 : decode cX2_found 155 = .ok (.astore_n 3, 1) := dk_78 (dk_at dksX2_found_5 5 rfl rfl)
theorem dX2_found_156 : decode cX2_found 156 = .ok (.aload_n 3, 1) := dk_45 (dk_at dksX2_found_5 6 rfl rfl)
theorem dX2_found_157 : decode cX2_found 157 = .ok (.aload_n 0, 1) := dk_42 (dk_at dksX2_found_5 7 rfl rfl)
theorem dX2_found_158 : decode cX2_found 158 = .ok (.aload_n 0, 1) := dk_42 (dk_at dksX2_found_5 8 rfl rfl)
theorem dX2_found_159 : decode cX2_found 159 = .ok (.getfield 16, 3) := dk_180 0 16 (dk_at dksX2_found_5 9 rfl rfl)
theorem dX2_found_162 : decode cX2_found 162 = .ok (.iload_n 1, 1) := dk_27 (dk_at dksX2_found_5 12 rfl rfl)
theorem dX2_found_163 : decode cX2_found 163 = .ok (.iaload, 1) := dk_46 (dk_at dksX2_found_5 13 rfl rfl)
theorem dX2_found_164 : decode cX2_found 164 = .ok (.new 204, 3) := dk_187 0 204 (dk_at dksX2_found_5 14 rfl rfl)
theorem dX2_found_167 : decode cX2_found 167 = .ok (.dup, 1) := dk_89 (dk_at dksX2_found_5 17 rfl rfl)
theorem dX2_found_168 : decode cX2_found 168 = .ok (.aload_n 0, 1) := dk_42 (dk_at dksX2_found_5 18 rfl rfl)
theorem dX2_found_169 : decode cX2_found 169 = .ok (.getfield 13, 3) := dk_180 0 13 (dk_at dksX2_found_5 19 rfl rfl)
theorem dX2_found_172 : decode cX2_found 172 = .ok (.iload_n 1, 1) := dk_27 (dk_at dksX2_found_5 22 rfl rfl)
theorem dX2_found_173 : decode cX2_found 173 = .ok (.iaload, 1) := dk_46 (dk_at dksX2_found_5 23 rfl rfl)
theorem dX2_found_174 : decode cX2_found 174 = .ok (.aload_n 3, 1) := dk_45 (dk_at dksX2_found_6 0 rfl rfl)
theorem dX2_found_175 : decode cX2_found 175 = .ok (.aload_n 2, 1) := dk_44 (dk_at dksX2_found_6 1 rfl rfl)
theorem dX2_found_176 : decode cX2_found 176 = .ok (.invokespecial 206, 3) := dk_183 0 206 (dk_at dksX2_found_6 2 rfl rfl)
theorem dX2_found_179 : decode cX2_found 179 = .ok (.invokevirtual 271, 3) := dk_182 1 15 (dk_at dksX2_found_6 5 rfl rfl)
theorem dX2_found_182 : decode cX2_found 182 = .ok (.invokestatic 242, 3) := dk_184 0 242 (dk_at dksX2_found_6 8 rfl rfl)
theorem dX2_found_185 : decode cX2_found 185 = .ok (.areturn, 1) := dk_176 (dk_at dksX2_found_6 11 rfl rfl)
theorem dX2_found_186 : decode cX2_found 186 = .ok (.aload_n 0, 1) := dk_42 (dk_at dksX2_found_6 12 rfl rfl)
theorem dX2_found_187 : decode cX2_found 187 = .ok (.aload_n 0, 1) := dk_42 (dk_at dksX2_found_6 13 rfl rfl)
theorem dX2_found_188 : decode cX2_found 188 = .ok (.getfield 16, 3) := dk_180 0 16 (dk_at dksX2_found_6 14 rfl rfl)
theorem dX2_found_191 : decode cX2_found 191 = .ok (.iload_n 1, 1) := dk_27 (dk_at dksX2_found_6 17 rfl rfl)
theorem dX2_found_192 : decode cX2_found 192 = .ok (.iaload, 1) := dk_46 (dk_at dksX2_found_6 18 rfl rfl)
theorem dX2_found_193 : decode cX2_found 193 = .ok (.aload_n 2, 1) := dk_44 (dk_at dksX2_found_6 19 rfl rfl)
theorem dX2_found_194 : decode cX2_found 194 = .ok (.invokevirtual 271, 3) := dk_182 1 15 (dk_at dksX2_found_6 20 rfl rfl)
theorem dX2_found_197 : decode cX2_found 197 = .ok (.astore_n 3, 1) := dk_78 (dk_at dksX2_found_6 23 rfl rfl)
theorem dX2_found_198 : decode cX2_found 198 = .ok (.aload_n 0, 1) := dk_42 (dk_at dksX2_found_7 0 rfl rfl)
theorem dX2_found_199 : decode cX2_found 199 = .ok (.aload_n 0, 1) := dk_42 (dk_at dksX2_found_7 1 rfl rfl)
theorem dX2_found_200 : decode cX2_found 200 = .ok (.getfield 19, 3) := dk_180 0 19 (dk_at dksX2_found_7 2 rfl rfl)
theorem dX2_found_203 : decode cX2_found 203 = .ok (.iload_n 1, 1) := dk_27 (dk_at dksX2_found_7 5 rfl rfl)
theorem dX2_found_204 : decode cX2_found 204 = .ok (.iaload, 1) := dk_46 (dk_at dksX2_found_7 6 rfl rfl)
theorem dX2_found_205 : decode cX2_found 205 = .ok (.aload_n 2, 1) := dk_44 (dk_at dksX2_found_7 7 rfl rfl)
theorem dX2_found_206 : decode cX2_found 206 = .ok (.invokevirtual 271, 3) := dk_182 1 15 (dk_at dksX2_found_7 8 rfl rfl)
theorem dX2_found_209 : decode cX2_found 209 = .ok (.astore 4, 2) := dk_58 4 (dk_at dksX2_found_7 11 rfl rfl)
theorem dX2_found_211 : decode cX2_found 211 = .ok (.new 76, 3) := dk_187 0 76 (dk_at dksX2_found_7 13 rfl rfl)
theorem dX2_found_214 : decode cX2_found 214 = .ok (.dup, 1) := dk_89 (dk_at dksX2_found_7 16 rfl rfl)
theorem dX2_found_215 : decode cX2_found 215 = .ok (.iconst 0, 1) := dk_3 (dk_at dksX2_found_7 17 rfl rfl)
theorem dX2_found_216 : decode cX2_found 216 = .ok (.invokespecial 78, 3) := dk_183 0 78 (dk_at dksX2_found_7 18 rfl rfl)
theorem dX2_found_219 : decode cX2_found 219 = .ok (.astore 6, 2) := dk_58 6 (dk_at dksX2_found_7 21 rfl rfl)
theorem dX2_found_221 : decode cX2_found 221 = .ok (.aload_n 0, 1) := dk_42 (dk_at dksX2_found_7 23 rfl rfl)
theorem dX2_found_222 : decode cX2_found 222 = .ok (.iload_n 1, 1) := dk_27 (dk_at dksX2_found_8 0 rfl rfl)
theorem dX2_found_223 : decode cX2_found 223 = .ok (.putfield 265, 3) := dk_181 1 9 (dk_at dksX2_found_8 1 rfl rfl)
theorem dX2_found_226 : decode cX2_found 226 = .ok (.aload_n 0, 1) := dk_42 (dk_at dksX2_found_8 4 rfl rfl)
theorem dX2_found_227 : decode cX2_found 227 = .ok (.aload_n 3, 1) := dk_45 (dk_at dksX2_found_8 5 rfl rfl)
theorem dX2_found_228 : decode cX2_found 228 = .ok (.aload 4, 2) := dk_25 4 (dk_at dksX2_found_8 6 rfl rfl)
theorem dX2_found_230 : decode cX2_found 230 = .ok (.aload 6, 2) := dk_25 6 (dk_at dksX2_found_8 8 rfl rfl)
theorem dX2_found_232 : decode cX2_found 232 = .ok (.invokestatic 242, 3) := dk_184 0 242 (dk_at dksX2_found_8 10 rfl rfl)
theorem dX2_found_235 : decode cX2_found 235 = .ok (.invokevirtual 155, 3) := dk_182 0 155 (dk_at dksX2_found_8 13 rfl rfl)
theorem dX2_found_238 : decode cX2_found 238 = .ok (.aload 6, 2) := dk_25 6 (dk_at dksX2_found_8 16 rfl rfl)
theorem dX2_found_240 : decode cX2_found 240 = .ok (.areturn, 1) := dk_176 (dk_at dksX2_found_8 18 rfl rfl)
theorem dX2_found_241 : decode cX2_found 241 = .ok (.aload_n 0, 1) := dk_42 (dk_at dksX2_found_8 19 rfl rfl)
theorem dX2_found_242 : decode cX2_found 242 = .ok (.aload_n 0, 1) := dk_42 (dk_at dksX2_found_8 20 rfl rfl)
theorem dX2_found_243 : decode cX2_found 243 = .ok (.getfield 16, 3) := dk_180 0 16 (dk_at dksX2_found_8 21 rfl rfl)
theorem dX2_found_246 : decode cX2_found 246 = .ok (.iload_n 1, 1) := dk_27 (dk_at dksX2_found_9 0 rfl rfl)
theorem dX2_found_247 : decode cX2_found 247 = .ok (.iaload, 1) := dk_46 (dk_at dksX2_found_9 1 rfl rfl)
theorem dX2_found_248 : decode cX2_found 248 = .ok (.aload_n 2, 1) := dk_44 (dk_at dksX2_found_9 2 rfl rfl)
theorem dX2_found_249 : decode cX2_found 249 = .ok (.invokevirtual 271, 3) := dk_182 1 15 (dk_at dksX2_found_9 3 rfl rfl)
theorem dX2_found_252 : decode cX2_found 252 = .ok (.astore_n 3, 1) := dk_78 (dk_at dksX2_found_9 6 rfl rfl)
theorem dX2_found_253 : decode cX2_found 253 = .ok (.aload_n 0, 1) := dk_42 (dk_at dksX2_found_9 7 rfl rfl)
theorem dX2_found_254 : decode cX2_found 254 = .ok (.aload_n 0, 1) := dk_42 (dk_at dksX2_found_9 8 rfl rfl)
theorem dX2_found_255 : decode cX2_found 255 = .ok (.getfield 19, 3) := dk_180 0 19 (dk_at dksX2_found_9 9 rfl rfl)
theorem dX2_found_258 : decode cX2_found 258 = .ok (.iload_n 1, 1) := dk_27 (dk_at dksX2_found_9 12 rfl rfl)
theorem dX2_found_259 : decode cX2_found 259 = .ok (.iaload, 1) := dk_46 (dk_at dksX2_found_9 13 rfl rfl)
theorem dX2_found_260 : decode cX2_found 260 = .ok (.aload_n 0, 1) := dk_42 (dk_at dksX2_found_9 14 rfl rfl)
theorem dX2_found_261 : decode cX2_found 261 = .ok (.iload_n 1, 1) := dk_27 (dk_at dksX2_found_9 15 rfl rfl)
theorem dX2_found_262 : decode cX2_found 262 = .ok (.aload_n 3, 1) := dk_45 (dk_at dksX2_found_9 16 rfl rfl)
theorem dX2_found_263 : decode cX2_found 263 = .ok (.aload_n 2, 1) := dk_44 (dk_at dksX2_found_9 17 rfl rfl)
theorem dX2_found_264 : decode cX2_found 264 = .ok (.invokevirtual 275, 3) := dk_182 1 19 (dk_at dksX2_found_9 18 rfl rfl)
theorem dX2_found_267 : decode cX2_found 267 = .ok (.invokevirtual 271, 3) := dk_182 1 15 (dk_at dksX2_found_9 21 rfl rfl)
theorem dX2_found_270 : decode cX2_found 270 = .ok (.areturn, 1) := dk_176 (dk_at dksX2_found_10 0 rfl rfl)
theorem dX2_found_271 : decode cX2_found 271 = .ok (.new 76, 3) := dk_187 0 76 (dk_at dksX2_found_10 1 rfl rfl)
theorem dX2_found_274 : decode cX2_found 274 = .ok (.dup, 1) := dk_89 (dk_at dksX2_found_10 4 rfl rfl)
theorem dX2_found_275 : decode cX2_found 275 = .ok (.iconst 0, 1) := dk_3 (dk_at dksX2_found_10 5 rfl rfl)
theorem dX2_found_276 : decode cX2_found 276 = .ok (.invokespecial 78, 3) := dk_183 0 78 (dk_at dksX2_found_10 6 rfl rfl)
theorem dX2_found_279 : decode cX2_found 279 = .ok (.astore 4, 2) := dk_58 4 (dk_at dksX2_found_10 9 rfl rfl)
theorem dX2_found_281 : decode cX2_found 281 = .ok (.aload_n 0, 1) := dk_42 (dk_at dksX2_found_10 11 rfl rfl)
theorem dX2_found_282 : decode cX2_found 282 = .ok (.aload_n 0, 1) := dk_42 (dk_at dksX2_found_10 12 rfl rfl)
theorem dX2_found_283 : decode cX2_found 283 = .ok (.getfield 16, 3) := dk_180 0 16 (dk_at dksX2_found_10 13 rfl rfl)
theorem dX2_found_286 : decode cX2_found 286 = .ok (.iload_n 1, 1) := dk_27 (dk_at dksX2_found_10 16 rfl rfl)
theorem dX2_found_287 : decode cX2_found 287 = .ok (.iaload, 1) := dk_46 (dk_at dksX2_found_10 17 rfl rfl)
theorem dX2_found_288 : decode cX2_found 288 = .ok (.new 204, 3) := dk_187 0 204 (dk_at dksX2_found_10 18 rfl rfl)
theorem dX2_found_291 : decode cX2_found 291 = .ok (.dup, 1) := dk_89 (dk_at dksX2_found_10 21 rfl rfl)
theorem dX2_found_292 : decode cX2_found 292 = .ok (.aload_n 0, 1) := dk_42 (dk_at dksX2_found_10 22 rfl rfl)
theorem dX2_found_293 : decode cX2_found 293 = .ok (.getfield 13, 3) := dk_180 0 13 (dk_at dksX2_found_11 0 rfl rfl)
theorem dX2_found_296 : decode cX2_found 296 = .ok (.iload_n 1, 1) := dk_27 (dk_at dksX2_found_11 3 rfl rfl)
theorem dX2_found_297 : decode cX2_found 297 = .ok (.iaload, 1) := dk_46 (dk_at dksX2_found_11 4 rfl rfl)
theorem dX2_found_298 : decode cX2_found 298 = .ok (.aload 4, 2) := dk_25 4 (dk_at dksX2_found_11 5 rfl rfl)
theorem dX2_found_300 : decode cX2_found 300 = .ok (.aload_n 2, 1) := dk_44 (dk_at dksX2_found_11 7 rfl rfl)
theorem dX2_found_301 : decode cX2_found 301 = .ok (.invokespecial 206, 3) := dk_183 0 206 (dk_at dksX2_found_11 8 rfl rfl)
theorem dX2_found_304 : decode cX2_found 304 = .ok (.invokevirtual 271, 3) := dk_182 1 15 (dk_at dksX2_found_11 11 rfl rfl)
theorem dX2_found_307 : decode cX2_found 307 = .ok (.astore_n 3, 1) := dk_78 (dk_at dksX2_found_11 14 rfl rfl)
theorem dX2_found_308 : decode cX2_found 308 = .ok (.aload_n 0, 1) := dk_42 (dk_at dksX2_found_11 15 rfl rfl)
theorem dX2_found_309 : decode cX2_found 309 = .ok (.iload_n 1, 1) := dk_27 (dk_at dksX2_found_11 16 rfl rfl)
theorem dX2_found_310 : decode cX2_found 310 = .ok (.putfield 265, 3) := dk_181 1 9 (dk_at dksX2_found_11 17 rfl rfl)
theorem dX2_found_313 : decode cX2_found 313 = .ok (.aload_n 0, 1) := dk_42 (dk_at dksX2_found_11 20 rfl rfl)
theorem dX2_found_314 : decode cX2_found 314 = .ok (.aload_n 3, 1) := dk_45 (dk_at dksX2_found_11 21 rfl rfl)
theorem dX2_found_315 : decode cX2_found 315 = .ok (.aload 4, 2) := dk_25 4 (dk_at dksX2_found_11 22 rfl rfl)
theorem dX2_found_317 : decode cX2_found 317 = .ok (.invokevirtual 155, 3) := dk_182 0 155 (dk_at dksX2_found_12 0 rfl rfl)
theorem dX2_found_320 : decode cX2_found 320 = .ok (.aload_n 0, 1) := dk_42 (dk_at dksX2_found_12 3 rfl rfl)
theorem dX2_found_321 : decode cX2_found 321 = .ok (.aload_n 0, 1) := dk_42 (dk_at dksX2_found_12 4 rfl rfl)
theorem dX2_found_322 : decode cX2_found 322 = .ok (.getfield 19, 3) := dk_180 0 19 (dk_at dksX2_found_12 5 rfl rfl)
theorem dX2_found_325 : decode cX2_found 325 = .ok (.iload_n 1, 1) := dk_27 (dk_at dksX2_found_12 8 rfl rfl)
theorem dX2_found_326 : decode cX2_found 326 = .ok (.iaload, 1) := dk_46 (dk_at dksX2_found_12 9 rfl rfl)
theorem dX2_found_327 : decode cX2_found 327 = .ok (.aload_n 0, 1) := dk_42 (dk_at dksX2_found_12 10 rfl rfl)
theorem dX2_found_328 : decode cX2_found 328 = .ok (.iload_n 1, 1) := dk_27 (dk_at dksX2_found_12 11 rfl rfl)
theorem dX2_found_329 : decode cX2_found 329 = .ok (.aload_n 3, 1) := dk_45 (dk_at dksX2_found_12 12 rfl rfl)
theorem dX2_found_330 : decode cX2_found 330 = .ok (.aload_n 2, 1) := dk_44 (dk_at dksX2_found_12 13 rfl rfl)
theorem dX2_found_331 : decode cX2_found 331 = .ok (.invokevirtual 275, 3) := dk_182 1 19 (dk_at dksX2_found_12 14 rfl rfl)
theorem dX2_found_334 : decode cX2_found 334 = .ok (.invokevirtual 271, 3) := dk_182 1 15 (dk_at dksX2_found_12 17 rfl rfl)
theorem dX2_found_337 : decode cX2_found 337 = .ok (.areturn, 1) := dk_176 (dk_at dksX2_found_12 20 rfl rfl)
theorem dX2_found_338 : decode cX2_found 338 = .ok (.aload_n 0, 1) := dk_42 (dk_at dksX2_found_12 21 rfl rfl)
theorem dX2_found_339 : decode cX2_found 339 = .ok (.aload_n 0, 1) := dk_42 (dk_at dksX2_found_12 22 rfl rfl)
theorem dX2_found_340 : decode cX2_found 340 = .ok (.getfield 16, 3) := dk_180 0 16 (dk_at dksX2_found_13 0 rfl rfl)
theorem dX2_found_343 : decode cX2_found 343 = .ok (.iload_n 1, 1) := dk_27 (dk_at dksX2_found_13 3 rfl rfl)
theorem dX2_found_344 : decode cX2_found 344 = .ok (.iaload, 1) := dk_46 (dk_at dksX2_found_13 4 rfl rfl)
theorem dX2_found_345 : decode cX2_found 345 = .ok (.aload_n 2, 1) := dk_44 (dk_at dksX2_found_13 5 rfl rfl)
theorem dX2_found_346 : decode cX2_found 346 = .ok (.invokevirtual 271, 3) := dk_182 1 15 (dk_at dksX2_found_13 6 rfl rfl)
theorem dX2_found_349 : decode cX2_found 349 = .ok (.astore_n 3, 1) := dk_78 (dk_at dksX2_found_13 9 rfl rfl)
theorem dX2_found_350 : decode cX2_found 350 = .ok (.aload_n 0, 1) := dk_42 (dk_at dksX2_found_13 10 rfl rfl)
theorem dX2_found_351 : decode cX2_found 351 = .ok (.iload_n 1, 1) := dk_27 (dk_at dksX2_found_13 11 rfl rfl)
theorem dX2_found_352 : decode cX2_found 352 = .ok (.putfield 265, 3) := dk_181 1 9 (dk_at dksX2_found_13 12 rfl rfl)
theorem dX2_found_355 : decode cX2_found 355 = .ok (.aload_n 0, 1) := dk_42 (dk_at dksX2_found_13 15 rfl rfl)
theorem dX2_found_356 : decode cX2_found 356 = .ok (.aload_n 3, 1) := dk_45 (dk_at dksX2_found_13 16 rfl rfl)
theorem dX2_found_357 : decode cX2_found 357 = .ok (.new 76, 3) := dk_187 0 76 (dk_at dksX2_found_13 17 rfl rfl)
theorem dX2_found_360 : decode cX2_found 360 = .ok (.dup, 1) := dk_89 (dk_at dksX2_found_13 20 rfl rfl)
theorem dX2_found_361 : decode cX2_found 361 = .ok (.iconst 1, 1) := dk_4 (dk_at dksX2_found_13 21 rfl rfl)
theorem dX2_found_362 : decode cX2_found 362 = .ok (.invokespecial 78, 3) := dk_183 0 78 (dk_at dksX2_found_14 0 rfl rfl)
theorem dX2_found_365 : decode cX2_found 365 = .ok (.invokevirtual 155, 3) := dk_182 0 155 (dk_at dksX2_found_14 3 rfl rfl)
theorem dX2_found_368 : decode cX2_found 368 = .ok (.aload_n 0, 1) := dk_42 (dk_at dksX2_found_14 6 rfl rfl)
theorem dX2_found_369 : decode cX2_found 369 = .ok (.aload_n 0, 1) := dk_42 (dk_at dksX2_found_14 7 rfl rfl)
theorem dX2_found_370 : decode cX2_found 370 = .ok (.getfield 19, 3) := dk_180 0 19 (dk_at dksX2_found_14 8 rfl rfl)
theorem dX2_found_373 : decode cX2_found 373 = .ok (.iload_n 1, 1) := dk_27 (dk_at dksX2_found_14 11 rfl rfl)
theorem dX2_found_374 : decode cX2_found 374 = .ok (.iaload, 1) := dk_46 (dk_at dksX2_found_14 12 rfl rfl)
theorem dX2_found_375 : decode cX2_found 375 = .ok (.aload_n 2, 1) := dk_44 (dk_at dksX2_found_14 13 rfl rfl)
theorem dX2_found_376 : decode cX2_found 376 = .ok (.invokevirtual 271, 3) := dk_182 1 15 (dk_at dksX2_found_14 14 rfl rfl)
theorem dX2_found_379 : decode cX2_found 379 = .ok (.astore_n 3, 1) := dk_78 (dk_at dksX2_found_14 17 rfl rfl)
theorem dX2_found_380 : decode cX2_found 380 = .ok (.aload_n 0, 1) := dk_42 (dk_at dksX2_found_14 18 rfl rfl)
theorem dX2_found_381 : decode cX2_found 381 = .ok (.aload_n 0, 1) := dk_42 (dk_at dksX2_found_14 19 rfl rfl)
theorem dX2_found_382 : decode cX2_found 382 = .ok (.getfield 22, 3) := dk_180 0 22 (dk_at dksX2_found_14 20 rfl rfl)
theorem dX2_found_385 : decode cX2_found 385 = .ok (.iload_n 1, 1) := dk_27 (dk_at dksX2_found_14 23 rfl rfl)
theorem dX2_found_386 : decode cX2_found 386 = .ok (.iaload, 1) := dk_46 (dk_at dksX2_found_15 0 rfl rfl)
theorem dX2_found_387 : decode cX2_found 387 = .ok (.aload_n 2, 1) := dk_44 (dk_at dksX2_found_15 1 rfl rfl)
theorem dX2_found_388 : decode cX2_found 388 = .ok (.invokevirtual 271, 3) := dk_182 1 15 (dk_at dksX2_found_15 2 rfl rfl)
theorem dX2_found_391 : decode cX2_found 391 = .ok (.astore 4, 2) := dk_58 4 (dk_at dksX2_found_15 5 rfl rfl)
theorem dX2_found_393 : decode cX2_found 393 = .ok (.aload_n 0, 1) := dk_42 (dk_at dksX2_found_15 7 rfl rfl)
theorem dX2_found_394 : decode cX2_found 394 = .ok (.iload_n 1, 1) := dk_27 (dk_at dksX2_found_15 8 rfl rfl)
theorem dX2_found_395 : decode cX2_found 395 = .ok (.putfield 265, 3) := dk_181 1 9 (dk_at dksX2_found_15 9 rfl rfl)
theorem dX2_found_398 : decode cX2_found 398 = .ok (.aload_n 0, 1) := dk_42 (dk_at dksX2_found_15 12 rfl rfl)
theorem dX2_found_399 : decode cX2_found 399 = .ok (.aload 4, 2) := dk_25 4 (dk_at dksX2_found_15 13 rfl rfl)
theorem dX2_found_401 : decode cX2_found 401 = .ok (.aload_n 3, 1) := dk_45 (dk_at dksX2_found_15 15 rfl rfl)
theorem dX2_found_402 : decode cX2_found 402 = .ok (.invokevirtual 155, 3) := dk_182 0 155 (dk_at dksX2_found_15 16 rfl rfl)
theorem dX2_found_405 : decode cX2_found 405 = .ok (.aload_n 3, 1) := dk_45 (dk_at dksX2_found_15 19 rfl rfl)
theorem dX2_found_406 : decode cX2_found 406 = .ok (.areturn, 1) := dk_176 (dk_at dksX2_found_15 20 rfl rfl)
theorem dX2_found_407 : decode cX2_found 407 = .ok (.aload_n 0, 1) := dk_42 (dk_at dksX2_found_15 21 rfl rfl)
theorem dX2_found_408 : decode cX2_found 408 = .ok (.aload_n 0, 1) := dk_42 (dk_at dksX2_found_15 22 rfl rfl)
theorem dX2_found_409 : decode cX2_found 409 = .ok (.getfield 16, 3) := dk_180 0 16 (dk_at dksX2_found_16 0 rfl rfl)
theorem dX2_found_412 : decode cX2_found 412 = .ok (.iload_n 1, 1) := dk_27 (dk_at dksX2_found_16 3 rfl rfl)
theorem dX2_found_413 : decode cX2_found 413 = .ok (.iaload, 1) := dk_46 (dk_at dksX2_found_16 4 rfl rfl)
theorem dX2_found_414 : decode cX2_found 414 = .ok (.aload_n 2, 1) := dk_44 (dk_at dksX2_found_16 5 rfl rfl)
theorem dX2_found_415 : decode cX2_found 415 = .ok (.invokevirtual 271, 3) := dk_182 1 15 (dk_at dksX2_found_16 6 rfl rfl)
theorem dX2_found_418 : decode cX2_found 418 = .ok (.astore_n 3, 1) := dk_78 (dk_at dksX2_found_16 9 rfl rfl)
theorem dX2_found_419 : decode cX2_found 419 = .ok (.aload_n 0, 1) := dk_42 (dk_at dksX2_found_16 10 rfl rfl)
theorem dX2_found_420 : decode cX2_found 420 = .ok (.aload_n 0, 1) := dk_42 (dk_at dksX2_found_16 11 rfl rfl)
theorem dX2_found_421 : decode cX2_found 421 = .ok (.getfield 19, 3) := dk_180 0 19 (dk_at dksX2_found_16 12 rfl rfl)
theorem dX2_found_424 : decode cX2_found 424 = .ok (.iload_n 1, 1) := dk_27 (dk_at dksX2_found_16 15 rfl rfl)
theorem dX2_found_425 : decode cX2_found 425 = .ok (.iaload, 1) := dk_46 (dk_at dksX2_found_16 16 rfl rfl)
theorem dX2_found_426 : decode cX2_found 426 = .ok (.aload_n 2, 1) := dk_44 (dk_at dksX2_found_16 17 rfl rfl)
theorem dX2_found_427 : decode cX2_found 427 = .ok (.invokevirtual 271, 3) := dk_182 1 15 (dk_at dksX2_found_16 18 rfl rfl)
theorem dX2_found_430 : decode cX2_found 430 = .ok (.astore 4, 2) := dk_58 4 (dk_at dksX2_found_16 21 rfl rfl)
theorem dX2_found_432 : decode cX2_found 432 = .ok (.aload_n 0, 1) := dk_42 (dk_at dksX2_found_16 23 rfl rfl)
theorem dX2_found_433 : decode cX2_found 433 = .ok (.iload_n 1, 1) := dk_27 (dk_at dksX2_found_17 0 rfl rfl)
theorem dX2_found_434 : decode cX2_found 434 = .ok (.putfield 265, 3) := dk_181 1 9 (dk_at dksX2_found_17 1 rfl rfl)
theorem dX2_found_437 : decode cX2_found 437 = .ok (.aload_n 0, 1) := dk_42 (dk_at dksX2_found_17 4 rfl rfl)
theorem dX2_found_438 : decode cX2_found 438 = .ok (.aload_n 3, 1) := dk_45 (dk_at dksX2_found_17 5 rfl rfl)
theorem dX2_found_439 : decode cX2_found 439 = .ok (.new 76, 3) := dk_187 0 76 (dk_at dksX2_found_17 6 rfl rfl)
theorem dX2_found_442 : decode cX2_found 442 = .ok (.dup, 1) := dk_89 (dk_at dksX2_found_17 9 rfl rfl)
theorem dX2_found_443 : decode cX2_found 443 = .ok (.iconst 1, 1) := dk_4 (dk_at dksX2_found_17 10 rfl rfl)
theorem dX2_found_444 : decode cX2_found 444 = .ok (.invokespecial 78, 3) := dk_183 0 78 (dk_at dksX2_found_17 11 rfl rfl)
theorem dX2_found_447 : decode cX2_found 447 = .ok (.invokevirtual 155, 3) := dk_182 0 155 (dk_at dksX2_found_17 14 rfl rfl)
theorem dX2_found_450 : decode cX2_found 450 = .ok (.aload_n 0, 1) := dk_42 (dk_at dksX2_found_17 17 rfl rfl)
theorem dX2_found_451 : decode cX2_found 451 = .ok (.aload 4, 2) := dk_25 4 (dk_at dksX2_found_17 18 rfl rfl)
theorem dX2_found_453 : decode cX2_found 453 = .ok (.new 76, 3) := dk_187 0 76 (dk_at dksX2_found_17 20 rfl rfl)
theorem dX2_found_456 : decode cX2_found 456 = .ok (.dup, 1) := dk_89 (dk_at dksX2_found_17 23 rfl rfl)
theorem dX2_found_457 : decode cX2_found 457 = .ok (.iconst 1, 1) := dk_4 (dk_at dksX2_found_18 0 rfl rfl)
theorem dX2_found_458 : decode cX2_found 458 = .ok (.invokespecial 78, 3) := dk_183 0 78 (dk_at dksX2_found_18 1 rfl rfl)
theorem dX2_found_461 : decode cX2_found 461 = .ok (.invokevirtual 155, 3) := dk_182 0 155 (dk_at dksX2_found_18 4 rfl rfl)
theorem dX2_found_464 : decode cX2_found 464 = .ok (.new 76, 3) := dk_187 0 76 (dk_at dksX2_found_18 7 rfl rfl)
theorem dX2_found_467 : decode cX2_found 467 = .ok (.dup, 1) := dk_89 (dk_at dksX2_found_18 10 rfl rfl)
theorem dX2_found_468 : decode cX2_found 468 = .ok (.iconst 1, 1) := dk_4 (dk_at dksX2_found_18 11 rfl rfl)
theorem dX2_found_469 : decode cX2_found 469 = .ok (.invokespecial 78, 3) := dk_183 0 78 (dk_at dksX2_found_18 12 rfl rfl)
theorem dX2_found_472 : decode cX2_found 472 = .ok (.areturn, 1) := dk_176 (dk_at dksX2_found_18 15 rfl rfl)
theorem dX2_found_473 : decode cX2_found 473 = .ok (.aload_n 0, 1) := dk_42 (dk_at dksX2_found_18 16 rfl rfl)
theorem dX2_found_474 : decode cX2_found 474 = .ok (.aload_n 0, 1) := dk_42 (dk_at dksX2_found_18 17 rfl rfl)
theorem dX2_found_475 : decode cX2_found 475 = .ok (.getfield 16, 3) := dk_180 0 16 (dk_at dksX2_found_18 18 rfl rfl)
theorem dX2_found_478 : decode cX2_found 478 = .ok (.iload_n 1, 1) := dk_27 (dk_at dksX2_found_18 21 rfl rfl)
theorem dX2_found_479 : decode cX2_found 479 = .ok (.iaload, 1) := dk_46 (dk_at dksX2_found_18 22 rfl rfl)
theorem dX2_found_480 : decode cX2_found 480 = .ok (.aload_n 2, 1) := dk_44 (dk_at dksX2_found_18 23 rfl rfl)
theorem dX2_found_481 : decode cX2_found 481 = .ok (.invokevirtual 271, 3) := dk_182 1 15 (dk_at dksX2_found_19 0 rfl rfl)
theorem dX2_found_484 : decode cX2_found 484 = .ok (.astore_n 3, 1) := dk_78 (dk_at dksX2_found_19 3 rfl rfl)
theorem dX2_found_485 : decode cX2_found 485 = .ok (.aload_n 0, 1) := dk_42 (dk_at dksX2_found_19 4 rfl rfl)
theorem dX2_found_486 : decode cX2_found 486 = .ok (.aload_n 0, 1) := dk_42 (dk_at dksX2_found_19 5 rfl rfl)
theorem dX2_found_487 : decode cX2_found 487 = .ok (.getfield 19, 3) := dk_180 0 19 (dk_at dksX2_found_19 6 rfl rfl)
theorem dX2_found_490 : decode cX2_found 490 = .ok (.iload_n 1, 1) := dk_27 (dk_at dksX2_found_19 9 rfl rfl)
theorem dX2_found_491 : decode cX2_found 491 = .ok (.iaload, 1) := dk_46 (dk_at dksX2_found_19 10 rfl rfl)
theorem dX2_found_492 : decode cX2_found 492 = .ok (.aload_n 2, 1) := dk_44 (dk_at dksX2_found_19 11 rfl rfl)
theorem dX2_found_493 : decode cX2_found 493 = .ok (.invokevirtual 271, 3) := dk_182 1 15 (dk_at dksX2_found_19 12 rfl rfl)
theorem dX2_found_496 : decode cX2_found 496 = .ok (.astore 4, 2) := dk_58 4 (dk_at dksX2_found_19 15 rfl rfl)
theorem dX2_found_498 : decode cX2_found 498 = .ok (.aload_n 0, 1) := dk_42 (dk_at dksX2_found_19 17 rfl rfl)
theorem dX2_found_499 : decode cX2_found 499 = .ok (.iload_n 1, 1) := dk_27 (dk_at dksX2_found_19 18 rfl rfl)
theorem dX2_found_500 : decode cX2_found 500 = .ok (.putfield 265, 3) := dk_181 1 9 (dk_at dksX2_found_19 19 rfl rfl)
theorem dX2_found_503 : decode cX2_found 503 = .ok (.aload_n 0, 1) := dk_42 (dk_at dksX2_found_19 22 rfl rfl)
theorem dX2_found_504 : decode cX2_found 504 = .ok (.aload 4, 2) := dk_25 4 (dk_at dksX2_found_20 0 rfl rfl)
theorem dX2_found_506 : decode cX2_found 506 = .ok (.aload_n 3, 1) := dk_45 (dk_at dksX2_found_20 2 rfl rfl)
theorem dX2_found_507 : decode cX2_found 507 = .ok (.invokevirtual 155, 3) := dk_182 0 155 (dk_at dksX2_found_20 3 rfl rfl)
theorem dX2_found_510 : decode cX2_found 510 = .ok (.aload_n 3, 1) := dk_45 (dk_at dksX2_found_20 6 rfl rfl)
theorem dX2_found_511 : decode cX2_found 511 = .ok (.aload_n 0, 1) := dk_42 (dk_at dksX2_found_20 7 rfl rfl)
theorem dX2_found_512 : decode cX2_found 512 = .ok (.invokevirtual 144, 3) := dk_182 0 144 (dk_at dksX2_found_20 8 rfl rfl)
theorem dX2_found_515 : decode cX2_found 515 = .ok (.invokestatic 139, 3) := dk_184 0 139 (dk_at dksX2_found_20 11 rfl rfl)
theorem dX2_found_518 : decode cX2_found 518 = .ok (.new 76, 3) := dk_187 0 76 (dk_at dksX2_found_20 14 rfl rfl)
theorem dX2_found_521 : decode cX2_found 521 = .ok (.dup, 1) := dk_89 (dk_at dksX2_found_20 17 rfl rfl)
theorem dX2_found_522 : decode cX2_found 522 = .ok (.iconst 1, 1) := dk_4 (dk_at dksX2_found_20 18 rfl rfl)
theorem dX2_found_523 : decode cX2_found 523 = .ok (.invokespecial 78, 3) := dk_183 0 78 (dk_at dksX2_found_20 19 rfl rfl)
theorem dX2_found_526 : decode cX2_found 526 = .ok (.areturn, 1) := dk_176 (dk_at dksX2_found_20 22 rfl rfl)
theorem dX2_found_527 : decode cX2_found 527 = .ok (.aload_n 0, 1) := dk_42 (dk_at dksX2_found_20 23 rfl rfl)
theorem dX2_found_528 : decode cX2_found 528 = .ok (.iload_n 1, 1) := dk_27 (dk_at dksX2_found_21 0 rfl rfl)
theorem dX2_found_529 : decode cX2_found 529 = .ok (.aload_n 2, 1) := dk_44 (dk_at dksX2_found_21 1 rfl rfl)
theorem dX2_found_530 : decode cX2_found 530 = .ok (.invokevirtual 279, 3) := dk_182 1 23 (dk_at dksX2_found_21 2 rfl rfl)
theorem dX2_found_533 : decode cX2_found 533 = .ok (.areturn, 1) := dk_176 (dk_at dksX2_found_21 5 rfl rfl)
theorem dX2_found_534 : decode cX2_found 534 = .ok (.aload_n 0, 1) := dk_42 (dk_at dksX2_found_21 6 rfl rfl)
theorem dX2_found_535 : decode cX2_found 535 = .ok (.iload_n 1, 1) := dk_27 (dk_at dksX2_found_21 7 rfl rfl)
theorem dX2_found_536 : decode cX2_found 536 = .ok (.aload_n 2, 1) := dk_44 (dk_at dksX2_found_21 8 rfl rfl)
theorem dX2_found_537 : decode cX2_found 537 = .ok (.invokevirtual 282, 3) := dk_182 1 26 (dk_at dksX2_found_21 9 rfl rfl)
theorem dX2_found_540 : decode cX2_found 540 = .ok (.areturn, 1) := dk_176 (dk_at dksX2_found_21 12 rfl rfl)
abbrev cX2_renewed : ByteArray := prog_45_method_36_code
def yX2_renewed : MethodName := ⟨RX2, "renewed", "(LRowenTongueModel$Known;)LRowenTongueModel$Type;"⟩
def dkwX2_renewed_7 : List UInt8 := [180, 0, 210, 167, 0, 13, 43, 180, 0, 210, 43, 44, 33, 184, 0, 238, 176]
abbrev dktX2_renewed_7 : List UInt8 := dkwX2_renewed_7 ++ []
def dkwX2_renewed_6 : List UInt8 := [132, 5, 1, 167, 255, 202, 43, 180, 0, 219, 182, 1, 2, 153, 0, 15, 44, 190, 154, 0, 10, 43]
abbrev dktX2_renewed_6 : List UInt8 := dkwX2_renewed_6 ++ dktX2_renewed_7
def dkwX2_renewed_5 : List UInt8 := [83, 44, 21, 5, 50, 43, 180, 0, 227, 21, 5, 182, 0, 223, 192, 0, 92, 180, 0, 143, 181, 0, 143]
abbrev dktX2_renewed_5 : List UInt8 := dkwX2_renewed_5 ++ dktX2_renewed_6
def dkwX2_renewed_4 : List UInt8 := [162, 0, 53, 44, 21, 5, 43, 180, 0, 227, 21, 5, 182, 0, 223, 192, 0, 92, 180, 0, 95, 184, 0, 179]
abbrev dktX2_renewed_4 : List UInt8 := dkwX2_renewed_4 ++ dktX2_renewed_5
def dkwX2_renewed_3 : List UInt8 := [181, 0, 115, 25, 6, 25, 7, 181, 0, 235, 132, 5, 1, 167, 255, 194, 3, 54, 5, 21, 5, 44, 190]
abbrev dktX2_renewed_3 : List UInt8 := dkwX2_renewed_3 ++ dktX2_renewed_4
def dkwX2_renewed_2 : List UInt8 := [187, 0, 76, 89, 3, 183, 0, 78, 58, 7, 25, 7, 25, 6, 180, 0, 135, 181, 0, 135, 25, 6, 33]
abbrev dktX2_renewed_2 : List UInt8 := dkwX2_renewed_2 ++ dktX2_renewed_3
def dkwX2_renewed_1 : List UInt8 := [180, 0, 219, 182, 0, 215, 162, 0, 56, 43, 180, 0, 219, 21, 5, 182, 0, 223, 192, 0, 76, 58, 6]
abbrev dktX2_renewed_1 : List UInt8 := dkwX2_renewed_1 ++ dktX2_renewed_2
def dkwX2_renewed_0 : List UInt8 := [43, 180, 0, 227, 182, 0, 215, 189, 0, 92, 77, 42, 182, 0, 144, 66, 3, 54, 5, 21, 5, 43]
abbrev dktX2_renewed_0 : List UInt8 := dkwX2_renewed_0 ++ dktX2_renewed_1
theorem dksX2_renewed_0 : cX2_renewed.data.toList.drop 0 = dktX2_renewed_0 := by decide +kernel
theorem dksX2_renewed_1 : cX2_renewed.data.toList.drop 22 = dktX2_renewed_1 := dk_seg dksX2_renewed_0 22 rfl rfl
theorem dksX2_renewed_2 : cX2_renewed.data.toList.drop 45 = dktX2_renewed_2 := dk_seg dksX2_renewed_1 23 rfl rfl
theorem dksX2_renewed_3 : cX2_renewed.data.toList.drop 68 = dktX2_renewed_3 := dk_seg dksX2_renewed_2 23 rfl rfl
theorem dksX2_renewed_4 : cX2_renewed.data.toList.drop 91 = dktX2_renewed_4 := dk_seg dksX2_renewed_3 23 rfl rfl
theorem dksX2_renewed_5 : cX2_renewed.data.toList.drop 115 = dktX2_renewed_5 := dk_seg dksX2_renewed_4 24 rfl rfl
theorem dksX2_renewed_6 : cX2_renewed.data.toList.drop 138 = dktX2_renewed_6 := dk_seg dksX2_renewed_5 23 rfl rfl
theorem dksX2_renewed_7 : cX2_renewed.data.toList.drop 160 = dktX2_renewed_7 := dk_seg dksX2_renewed_6 22 rfl rfl
theorem dX2_renewed_0 : decode cX2_renewed 0 = .ok (.aload_n 1, 1) := dk_43 (dk_at dksX2_renewed_0 0 rfl rfl)
theorem dX2_renewed_1 : decode cX2_renewed 1 = .ok (.getfield 227, 3) := dk_180 0 227 (dk_at dksX2_renewed_0 1 rfl rfl)
theorem dX2_renewed_4 : decode cX2_renewed 4 = .ok (.invokevirtual 215, 3) := dk_182 0 215 (dk_at dksX2_renewed_0 4 rfl rfl)
theorem dX2_renewed_7 : decode cX2_renewed 7 = .ok (.anewarray 92, 3) := dk_189 0 92 (dk_at dksX2_renewed_0 7 rfl rfl)
theorem dX2_renewed_10 : decode cX2_renewed 10 = .ok (.astore_n 2, 1) := dk_77 (dk_at dksX2_renewed_0 10 rfl rfl)
theorem dX2_renewed_11 : decode cX2_renewed 11 = .ok (.aload_n 0, 1) := dk_42 (dk_at dksX2_renewed_0 11 rfl rfl)
theorem dX2_renewed_12 : decode cX2_renewed 12 = .ok (.invokevirtual 144, 3) := dk_182 0 144 (dk_at dksX2_renewed_0 12 rfl rfl)
theorem dX2_renewed_15 : decode cX2_renewed 15 = .ok (.lstore_n 3, 1) := dk_66 (dk_at dksX2_renewed_0 15 rfl rfl)
theorem dX2_renewed_16 : decode cX2_renewed 16 = .ok (.iconst 0, 1) := dk_3 (dk_at dksX2_renewed_0 16 rfl rfl)
theorem dX2_renewed_17 : decode cX2_renewed 17 = .ok (.istore 5, 2) := dk_54 5 (dk_at dksX2_renewed_0 17 rfl rfl)
theorem dX2_renewed_19 : decode cX2_renewed 19 = .ok (.iload 5, 2) := dk_21 5 (dk_at dksX2_renewed_0 19 rfl rfl)
theorem dX2_renewed_21 : decode cX2_renewed 21 = .ok (.aload_n 1, 1) := dk_43 (dk_at dksX2_renewed_0 21 rfl rfl)
theorem dX2_renewed_22 : decode cX2_renewed 22 = .ok (.getfield 219, 3) := dk_180 0 219 (dk_at dksX2_renewed_1 0 rfl rfl)
theorem dX2_renewed_25 : decode cX2_renewed 25 = .ok (.invokevirtual 215, 3) := dk_182 0 215 (dk_at dksX2_renewed_1 3 rfl rfl)
theorem dX2_renewed_28 : decode cX2_renewed 28 = .ok (.if_icmp .ge 56, 3) := dk_162 0 56 (dk_at dksX2_renewed_1 6 rfl rfl)
theorem dX2_renewed_31 : decode cX2_renewed 31 = .ok (.aload_n 1, 1) := dk_43 (dk_at dksX2_renewed_1 9 rfl rfl)
theorem dX2_renewed_32 : decode cX2_renewed 32 = .ok (.getfield 219, 3) := dk_180 0 219 (dk_at dksX2_renewed_1 10 rfl rfl)
theorem dX2_renewed_35 : decode cX2_renewed 35 = .ok (.iload 5, 2) := dk_21 5 (dk_at dksX2_renewed_1 13 rfl rfl)
theorem dX2_renewed_37 : decode cX2_renewed 37 = .ok (.invokevirtual 223, 3) := dk_182 0 223 (dk_at dksX2_renewed_1 15 rfl rfl)
theorem dX2_renewed_40 : decode cX2_renewed 40 = .ok (.checkcast 76, 3) := dk_192 0 76 (dk_at dksX2_renewed_1 18 rfl rfl)
theorem dX2_renewed_43 : decode cX2_renewed 43 = .ok (.astore 6, 2) := dk_58 6 (dk_at dksX2_renewed_1 21 rfl rfl)
theorem dX2_renewed_45 : decode cX2_renewed 45 = .ok (.new 76, 3) := dk_187 0 76 (dk_at dksX2_renewed_2 0 rfl rfl)
theorem dX2_renewed_48 : decode cX2_renewed 48 = .ok (.dup, 1) := dk_89 (dk_at dksX2_renewed_2 3 rfl rfl)
theorem dX2_renewed_49 : decode cX2_renewed 49 = .ok (.iconst 0, 1) := dk_3 (dk_at dksX2_renewed_2 4 rfl rfl)
theorem dX2_renewed_50 : decode cX2_renewed 50 = .ok (.invokespecial 78, 3) := dk_183 0 78 (dk_at dksX2_renewed_2 5 rfl rfl)
theorem dX2_renewed_53 : decode cX2_renewed 53 = .ok (.astore 7, 2) := dk_58 7 (dk_at dksX2_renewed_2 8 rfl rfl)
theorem dX2_renewed_55 : decode cX2_renewed 55 = .ok (.aload 7, 2) := dk_25 7 (dk_at dksX2_renewed_2 10 rfl rfl)
theorem dX2_renewed_57 : decode cX2_renewed 57 = .ok (.aload 6, 2) := dk_25 6 (dk_at dksX2_renewed_2 12 rfl rfl)
theorem dX2_renewed_59 : decode cX2_renewed 59 = .ok (.getfield 135, 3) := dk_180 0 135 (dk_at dksX2_renewed_2 14 rfl rfl)
theorem dX2_renewed_62 : decode cX2_renewed 62 = .ok (.putfield 135, 3) := dk_181 0 135 (dk_at dksX2_renewed_2 17 rfl rfl)
theorem dX2_renewed_65 : decode cX2_renewed 65 = .ok (.aload 6, 2) := dk_25 6 (dk_at dksX2_renewed_2 20 rfl rfl)
theorem dX2_renewed_67 : decode cX2_renewed 67 = .ok (.lload_n 3, 1) := dk_33 (dk_at dksX2_renewed_2 22 rfl rfl)
theorem dX2_renewed_68 : decode cX2_renewed 68 = .ok (.putfield 115, 3) := dk_181 0 115 (dk_at dksX2_renewed_3 0 rfl rfl)
theorem dX2_renewed_71 : decode cX2_renewed 71 = .ok (.aload 6, 2) := dk_25 6 (dk_at dksX2_renewed_3 3 rfl rfl)
theorem dX2_renewed_73 : decode cX2_renewed 73 = .ok (.aload 7, 2) := dk_25 7 (dk_at dksX2_renewed_3 5 rfl rfl)
theorem dX2_renewed_75 : decode cX2_renewed 75 = .ok (.putfield 235, 3) := dk_181 0 235 (dk_at dksX2_renewed_3 7 rfl rfl)
theorem dX2_renewed_78 : decode cX2_renewed 78 = .ok (.iinc 5 1, 3) := dk_132 5 1 (dk_at dksX2_renewed_3 10 rfl rfl)
theorem dX2_renewed_81 : decode cX2_renewed 81 = .ok (.goto (-62), 3) := dk_167 255 194 (dk_at dksX2_renewed_3 13 rfl rfl)
theorem dX2_renewed_84 : decode cX2_renewed 84 = .ok (.iconst 0, 1) := dk_3 (dk_at dksX2_renewed_3 16 rfl rfl)
theorem dX2_renewed_85 : decode cX2_renewed 85 = .ok (.istore 5, 2) := dk_54 5 (dk_at dksX2_renewed_3 17 rfl rfl)
theorem dX2_renewed_87 : decode cX2_renewed 87 = .ok (.iload 5, 2) := dk_21 5 (dk_at dksX2_renewed_3 19 rfl rfl)
theorem dX2_renewed_89 : decode cX2_renewed 89 = .ok (.aload_n 2, 1) := dk_44 (dk_at dksX2_renewed_3 21 rfl rfl)
theorem dX2_renewed_90 : decode cX2_renewed 90 = .ok (.arraylength, 1) := dk_190 (dk_at dksX2_renewed_3 22 rfl rfl)
theorem dX2_renewed_91 : decode cX2_renewed 91 = .ok (.if_icmp .ge 53, 3) := dk_162 0 53 (dk_at dksX2_renewed_4 0 rfl rfl)
theorem dX2_renewed_94 : decode cX2_renewed 94 = .ok (.aload_n 2, 1) := dk_44 (dk_at dksX2_renewed_4 3 rfl rfl)
theorem dX2_renewed_95 : decode cX2_renewed 95 = .ok (.iload 5, 2) := dk_21 5 (dk_at dksX2_renewed_4 4 rfl rfl)
theorem dX2_renewed_97 : decode cX2_renewed 97 = .ok (.aload_n 1, 1) := dk_43 (dk_at dksX2_renewed_4 6 rfl rfl)
theorem dX2_renewed_98 : decode cX2_renewed 98 = .ok (.getfield 227, 3) := dk_180 0 227 (dk_at dksX2_renewed_4 7 rfl rfl)
theorem dX2_renewed_101 : decode cX2_renewed 101 = .ok (.iload 5, 2) := dk_21 5 (dk_at dksX2_renewed_4 10 rfl rfl)
theorem dX2_renewed_103 : decode cX2_renewed 103 = .ok (.invokevirtual 223, 3) := dk_182 0 223 (dk_at dksX2_renewed_4 12 rfl rfl)
theorem dX2_renewed_106 : decode cX2_renewed 106 = .ok (.checkcast 92, 3) := dk_192 0 92 (dk_at dksX2_renewed_4 15 rfl rfl)
theorem dX2_renewed_109 : decode cX2_renewed 109 = .ok (.getfield 95, 3) := dk_180 0 95 (dk_at dksX2_renewed_4 18 rfl rfl)
theorem dX2_renewed_112 : decode cX2_renewed 112 = .ok (.invokestatic 179, 3) := dk_184 0 179 (dk_at dksX2_renewed_4 21 rfl rfl)
theorem dX2_renewed_115 : decode cX2_renewed 115 = .ok (.aastore, 1) := dk_83 (dk_at dksX2_renewed_5 0 rfl rfl)
theorem dX2_renewed_116 : decode cX2_renewed 116 = .ok (.aload_n 2, 1) := dk_44 (dk_at dksX2_renewed_5 1 rfl rfl)
theorem dX2_renewed_117 : decode cX2_renewed 117 = .ok (.iload 5, 2) := dk_21 5 (dk_at dksX2_renewed_5 2 rfl rfl)
theorem dX2_renewed_119 : decode cX2_renewed 119 = .ok (.aaload, 1) := dk_50 (dk_at dksX2_renewed_5 4 rfl rfl)
theorem dX2_renewed_120 : decode cX2_renewed 120 = .ok (.aload_n 1, 1) := dk_43 (dk_at dksX2_renewed_5 5 rfl rfl)
theorem dX2_renewed_121 : decode cX2_renewed 121 = .ok (.getfield 227, 3) := dk_180 0 227 (dk_at dksX2_renewed_5 6 rfl rfl)
theorem dX2_renewed_124 : decode cX2_renewed 124 = .ok (.iload 5, 2) := dk_21 5 (dk_at dksX2_renewed_5 9 rfl rfl)
theorem dX2_renewed_126 : decode cX2_renewed 126 = .ok (.invokevirtual 223, 3) := dk_182 0 223 (dk_at dksX2_renewed_5 11 rfl rfl)
theorem dX2_renewed_129 : decode cX2_renewed 129 = .ok (.checkcast 92, 3) := dk_192 0 92 (dk_at dksX2_renewed_5 14 rfl rfl)
theorem dX2_renewed_132 : decode cX2_renewed 132 = .ok (.getfield 143, 3) := dk_180 0 143 (dk_at dksX2_renewed_5 17 rfl rfl)
theorem dX2_renewed_135 : decode cX2_renewed 135 = .ok (.putfield 143, 3) := dk_181 0 143 (dk_at dksX2_renewed_5 20 rfl rfl)
theorem dX2_renewed_138 : decode cX2_renewed 138 = .ok (.iinc 5 1, 3) := dk_132 5 1 (dk_at dksX2_renewed_6 0 rfl rfl)
theorem dX2_renewed_141 : decode cX2_renewed 141 = .ok (.goto (-54), 3) := dk_167 255 202 (dk_at dksX2_renewed_6 3 rfl rfl)
theorem dX2_renewed_144 : decode cX2_renewed 144 = .ok (.aload_n 1, 1) := dk_43 (dk_at dksX2_renewed_6 6 rfl rfl)
theorem dX2_renewed_145 : decode cX2_renewed 145 = .ok (.getfield 219, 3) := dk_180 0 219 (dk_at dksX2_renewed_6 7 rfl rfl)
theorem dX2_renewed_148 : decode cX2_renewed 148 = .ok (.invokevirtual 258, 3) := dk_182 1 2 (dk_at dksX2_renewed_6 10 rfl rfl)
theorem dX2_renewed_151 : decode cX2_renewed 151 = .ok (.ifCond .eq 15, 3) := dk_153 0 15 (dk_at dksX2_renewed_6 13 rfl rfl)
theorem dX2_renewed_154 : decode cX2_renewed 154 = .ok (.aload_n 2, 1) := dk_44 (dk_at dksX2_renewed_6 16 rfl rfl)
theorem dX2_renewed_155 : decode cX2_renewed 155 = .ok (.arraylength, 1) := dk_190 (dk_at dksX2_renewed_6 17 rfl rfl)
theorem dX2_renewed_156 : decode cX2_renewed 156 = .ok (.ifCond .ne 10, 3) := dk_154 0 10 (dk_at dksX2_renewed_6 18 rfl rfl)
theorem dX2_renewed_159 : decode cX2_renewed 159 = .ok (.aload_n 1, 1) := dk_43 (dk_at dksX2_renewed_6 21 rfl rfl)
theorem dX2_renewed_160 : decode cX2_renewed 160 = .ok (.getfield 210, 3) := dk_180 0 210 (dk_at dksX2_renewed_7 0 rfl rfl)
theorem dX2_renewed_163 : decode cX2_renewed 163 = .ok (.goto 13, 3) := dk_167 0 13 (dk_at dksX2_renewed_7 3 rfl rfl)
theorem dX2_renewed_166 : decode cX2_renewed 166 = .ok (.aload_n 1, 1) := dk_43 (dk_at dksX2_renewed_7 6 rfl rfl)
theorem dX2_renewed_167 : decode cX2_renewed 167 = .ok (.getfield 210, 3) := dk_180 0 210 (dk_at dksX2_renewed_7 7 rfl rfl)
theorem dX2_renewed_170 : decode cX2_renewed 170 = .ok (.aload_n 1, 1) := dk_43 (dk_at dksX2_renewed_7 10 rfl rfl)
theorem dX2_renewed_171 : decode cX2_renewed 171 = .ok (.aload_n 2, 1) := dk_44 (dk_at dksX2_renewed_7 11 rfl rfl)
theorem dX2_renewed_172 : decode cX2_renewed 172 = .ok (.lload_n 3, 1) := dk_33 (dk_at dksX2_renewed_7 12 rfl rfl)
theorem dX2_renewed_173 : decode cX2_renewed 173 = .ok (.invokestatic 238, 3) := dk_184 0 238 (dk_at dksX2_renewed_7 13 rfl rfl)
theorem dX2_renewed_176 : decode cX2_renewed 176 = .ok (.areturn, 1) := dk_176 (dk_at dksX2_renewed_7 16 rfl rfl)
abbrev cX2_nextStamp : ByteArray := prog_45_method_20_code
def yX2_nextStamp : MethodName := ⟨RX2, "nextStamp", "()J"⟩
def dkwX2_nextStamp_0 : List UInt8 := [42, 89, 180, 0, 107, 10, 97, 181, 0, 107, 42, 180, 0, 107, 173]
abbrev dktX2_nextStamp_0 : List UInt8 := dkwX2_nextStamp_0 ++ []
theorem dksX2_nextStamp_0 : cX2_nextStamp.data.toList.drop 0 = dktX2_nextStamp_0 := by decide +kernel
theorem dX2_nextStamp_0 : decode cX2_nextStamp 0 = .ok (.aload_n 0, 1) := dk_42 (dk_at dksX2_nextStamp_0 0 rfl rfl)
theorem dX2_nextStamp_1 : decode cX2_nextStamp 1 = .ok (.dup, 1) := dk_89 (dk_at dksX2_nextStamp_0 1 rfl rfl)
theorem dX2_nextStamp_2 : decode cX2_nextStamp 2 = .ok (.getfield 107, 3) := dk_180 0 107 (dk_at dksX2_nextStamp_0 2 rfl rfl)
theorem dX2_nextStamp_5 : decode cX2_nextStamp 5 = .ok (.lconst 1, 1) := dk_10 (dk_at dksX2_nextStamp_0 5 rfl rfl)
theorem dX2_nextStamp_6 : decode cX2_nextStamp 6 = .ok (.ladd, 1) := dk_97 (dk_at dksX2_nextStamp_0 6 rfl rfl)
theorem dX2_nextStamp_7 : decode cX2_nextStamp 7 = .ok (.putfield 107, 3) := dk_181 0 107 (dk_at dksX2_nextStamp_0 7 rfl rfl)
theorem dX2_nextStamp_10 : decode cX2_nextStamp 10 = .ok (.aload_n 0, 1) := dk_42 (dk_at dksX2_nextStamp_0 10 rfl rfl)
theorem dX2_nextStamp_11 : decode cX2_nextStamp 11 = .ok (.getfield 107, 3) := dk_180 0 107 (dk_at dksX2_nextStamp_0 11 rfl rfl)
theorem dX2_nextStamp_14 : decode cX2_nextStamp 14 = .ok (.lreturn, 1) := dk_173 (dk_at dksX2_nextStamp_0 14 rfl rfl)
abbrev cX2_lacking : ByteArray := prog_45_method_18_code
def yX2_lacking : MethodName := ⟨RX2, "lacking", "(I)LRowenTongueModel$Row;"⟩
def dkwX2_lacking_0 : List UInt8 := [187, 0, 92, 89, 3, 183, 0, 94, 76, 43, 26, 181, 0, 95, 43, 176]
abbrev dktX2_lacking_0 : List UInt8 := dkwX2_lacking_0 ++ []
theorem dksX2_lacking_0 : cX2_lacking.data.toList.drop 0 = dktX2_lacking_0 := by decide +kernel
theorem dX2_lacking_0 : decode cX2_lacking 0 = .ok (.new 92, 3) := dk_187 0 92 (dk_at dksX2_lacking_0 0 rfl rfl)
theorem dX2_lacking_3 : decode cX2_lacking 3 = .ok (.dup, 1) := dk_89 (dk_at dksX2_lacking_0 3 rfl rfl)
theorem dX2_lacking_4 : decode cX2_lacking 4 = .ok (.iconst 0, 1) := dk_3 (dk_at dksX2_lacking_0 4 rfl rfl)
theorem dX2_lacking_5 : decode cX2_lacking 5 = .ok (.invokespecial 94, 3) := dk_183 0 94 (dk_at dksX2_lacking_0 5 rfl rfl)
theorem dX2_lacking_8 : decode cX2_lacking 8 = .ok (.astore_n 1, 1) := dk_76 (dk_at dksX2_lacking_0 8 rfl rfl)
theorem dX2_lacking_9 : decode cX2_lacking 9 = .ok (.aload_n 1, 1) := dk_43 (dk_at dksX2_lacking_0 9 rfl rfl)
theorem dX2_lacking_10 : decode cX2_lacking 10 = .ok (.iload_n 0, 1) := dk_26 (dk_at dksX2_lacking_0 10 rfl rfl)
theorem dX2_lacking_11 : decode cX2_lacking 11 = .ok (.putfield 95, 3) := dk_181 0 95 (dk_at dksX2_lacking_0 11 rfl rfl)
theorem dX2_lacking_14 : decode cX2_lacking 14 = .ok (.aload_n 1, 1) := dk_43 (dk_at dksX2_lacking_0 14 rfl rfl)
theorem dX2_lacking_15 : decode cX2_lacking 15 = .ok (.areturn, 1) := dk_176 (dk_at dksX2_lacking_0 15 rfl rfl)
abbrev cX2_renewed_2 : ByteArray := prog_45_method_34_code
def yX2_renewed_2 : MethodName := ⟨RX2, "renewed", "(LRowenTongueModel$Type;LRowenTongueModel$Known;[LRowenTongueModel$Row;J)LRowenTongueModel$Type;"⟩
def dkwX2_renewed_2_7 : List UInt8 := [25, 5, 33, 181, 0, 115, 25, 5, 25, 6, 181, 0, 235, 25, 6, 176]
abbrev dktX2_renewed_2_7 : List UInt8 := dkwX2_renewed_2_7 ++ []
def dkwX2_renewed_2_6 : List UInt8 := [182, 0, 128, 166, 0, 8, 25, 5, 167, 0, 13, 25, 5, 180, 0, 118, 25, 7, 184, 0, 250, 58, 6]
abbrev dktX2_renewed_2_6 : List UInt8 := dkwX2_renewed_2_6 ++ dktX2_renewed_2_7
def dkwX2_renewed_2_5 : List UInt8 := [7, 160, 0, 46, 25, 5, 180, 0, 88, 43, 44, 33, 184, 0, 246, 58, 7, 25, 7, 25, 5, 180, 0, 88]
abbrev dktX2_renewed_2_5 : List UInt8 := dkwX2_renewed_2_5 ++ dktX2_renewed_2_6
def dkwX2_renewed_2_4 : List UInt8 := [25, 8, 184, 0, 242, 58, 6, 167, 0, 64, 25, 5, 180, 0, 118, 6, 159, 0, 12, 25, 5, 180, 0, 118]
abbrev dktX2_renewed_2_4 : List UInt8 := dkwX2_renewed_2_4 ++ dktX2_renewed_2_5
def dkwX2_renewed_2_3 : List UInt8 := [166, 0, 21, 25, 8, 25, 5, 180, 0, 85, 182, 0, 111, 166, 0, 8, 25, 5, 167, 0, 10, 25, 7]
abbrev dktX2_renewed_2_3 : List UInt8 := dkwX2_renewed_2_3 ++ dktX2_renewed_2_4
def dkwX2_renewed_2_2 : List UInt8 := [25, 5, 180, 0, 85, 43, 44, 33, 184, 0, 238, 58, 8, 25, 7, 25, 5, 180, 0, 81, 182, 0, 111]
abbrev dktX2_renewed_2_2 : List UInt8 := dkwX2_renewed_2_2 ++ dktX2_renewed_2_3
def dkwX2_renewed_2_1 : List UInt8 := [58, 6, 25, 5, 180, 0, 118, 5, 160, 0, 72, 25, 5, 180, 0, 81, 43, 44, 33, 184, 0, 238, 58, 7]
abbrev dktX2_renewed_2_1 : List UInt8 := dkwX2_renewed_2_1 ++ dktX2_renewed_2_2
def dkwX2_renewed_2_0 : List UInt8 := [42, 182, 0, 111, 58, 5, 25, 5, 180, 0, 115, 33, 148, 154, 0, 9, 25, 5, 180, 0, 235, 176, 25, 5]
abbrev dktX2_renewed_2_0 : List UInt8 := dkwX2_renewed_2_0 ++ dktX2_renewed_2_1
theorem dksX2_renewed_2_0 : cX2_renewed_2.data.toList.drop 0 = dktX2_renewed_2_0 := by decide +kernel
theorem dksX2_renewed_2_1 : cX2_renewed_2.data.toList.drop 24 = dktX2_renewed_2_1 := dk_seg dksX2_renewed_2_0 24 rfl rfl
theorem dksX2_renewed_2_2 : cX2_renewed_2.data.toList.drop 48 = dktX2_renewed_2_2 := dk_seg dksX2_renewed_2_1 24 rfl rfl
theorem dksX2_renewed_2_3 : cX2_renewed_2.data.toList.drop 71 = dktX2_renewed_2_3 := dk_seg dksX2_renewed_2_2 23 rfl rfl
theorem dksX2_renewed_2_4 : cX2_renewed_2.data.toList.drop 94 = dktX2_renewed_2_4 := dk_seg dksX2_renewed_2_3 23 rfl rfl
theorem dksX2_renewed_2_5 : cX2_renewed_2.data.toList.drop 118 = dktX2_renewed_2_5 := dk_seg dksX2_renewed_2_4 24 rfl rfl
theorem dksX2_renewed_2_6 : cX2_renewed_2.data.toList.drop 142 = dktX2_renewed_2_6 := dk_seg dksX2_renewed_2_5 24 rfl rfl
theorem dksX2_renewed_2_7 : cX2_renewed_2.data.toList.drop 165 = dktX2_renewed_2_7 := dk_seg dksX2_renewed_2_6 23 rfl rfl
theorem dX2_renewed_2_0 : decode cX2_renewed_2 0 = .ok (.aload_n 0, 1) := dk_42 (dk_at dksX2_renewed_2_0 0 rfl rfl)
theorem dX2_renewed_2_1 : decode cX2_renewed_2 1 = .ok (.invokevirtual 111, 3) := dk_182 0 111 (dk_at dksX2_renewed_2_0 1 rfl rfl)
theorem dX2_renewed_2_4 : decode cX2_renewed_2 4 = .ok (.astore 5, 2) := dk_58 5 (dk_at dksX2_renewed_2_0 4 rfl rfl)
theorem dX2_renewed_2_6 : decode cX2_renewed_2 6 = .ok (.aload 5, 2) := dk_25 5 (dk_at dksX2_renewed_2_0 6 rfl rfl)
theorem dX2_renewed_2_8 : decode cX2_renewed_2 8 = .ok (.getfield 115, 3) := dk_180 0 115 (dk_at dksX2_renewed_2_0 8 rfl rfl)
theorem dX2_renewed_2_11 : decode cX2_renewed_2 11 = .ok (.lload_n 3, 1) := dk_33 (dk_at dksX2_renewed_2_0 11 rfl rfl)
theorem dX2_renewed_2_12 : decode cX2_renewed_2 12 = .ok (.lcmp, 1) := dk_148 (dk_at dksX2_renewed_2_0 12 rfl rfl)
theorem dX2_renewed_2_13 : decode cX2_renewed_2 13 = .ok (.ifCond .ne 9, 3) := dk_154 0 9 (dk_at dksX2_renewed_2_0 13 rfl rfl)
theorem dX2_renewed_2_16 : decode cX2_renewed_2 16 = .ok (.aload 5, 2) := dk_25 5 (dk_at dksX2_renewed_2_0 16 rfl rfl)
theorem dX2_renewed_2_18 : decode cX2_renewed_2 18 = .ok (.getfield 235, 3) := dk_180 0 235 (dk_at dksX2_renewed_2_0 18 rfl rfl)
theorem dX2_renewed_2_21 : decode cX2_renewed_2 21 = .ok (.areturn, 1) := dk_176 (dk_at dksX2_renewed_2_0 21 rfl rfl)
theorem dX2_renewed_2_22 : decode cX2_renewed_2 22 = .ok (.aload 5, 2) := dk_25 5 (dk_at dksX2_renewed_2_0 22 rfl rfl)
theorem dX2_renewed_2_24 : decode cX2_renewed_2 24 = .ok (.astore 6, 2) := dk_58 6 (dk_at dksX2_renewed_2_1 0 rfl rfl)
theorem dX2_renewed_2_26 : decode cX2_renewed_2 26 = .ok (.aload 5, 2) := dk_25 5 (dk_at dksX2_renewed_2_1 2 rfl rfl)
theorem dX2_renewed_2_28 : decode cX2_renewed_2 28 = .ok (.getfield 118, 3) := dk_180 0 118 (dk_at dksX2_renewed_2_1 4 rfl rfl)
theorem dX2_renewed_2_31 : decode cX2_renewed_2 31 = .ok (.iconst 2, 1) := dk_5 (dk_at dksX2_renewed_2_1 7 rfl rfl)
theorem dX2_renewed_2_32 : decode cX2_renewed_2 32 = .ok (.if_icmp .ne 72, 3) := dk_160 0 72 (dk_at dksX2_renewed_2_1 8 rfl rfl)
theorem dX2_renewed_2_35 : decode cX2_renewed_2 35 = .ok (.aload 5, 2) := dk_25 5 (dk_at dksX2_renewed_2_1 11 rfl rfl)
theorem dX2_renewed_2_37 : decode cX2_renewed_2 37 = .ok (.getfield 81, 3) := dk_180 0 81 (dk_at dksX2_renewed_2_1 13 rfl rfl)
theorem dX2_renewed_2_40 : decode cX2_renewed_2 40 = .ok (.aload_n 1, 1) := dk_43 (dk_at dksX2_renewed_2_1 16 rfl rfl)
theorem dX2_renewed_2_41 : decode cX2_renewed_2 41 = .ok (.aload_n 2, 1) := dk_44 (dk_at dksX2_renewed_2_1 17 rfl rfl)
theorem dX2_renewed_2_42 : decode cX2_renewed_2 42 = .ok (.lload_n 3, 1) := dk_33 (dk_at dksX2_renewed_2_1 18 rfl rfl)
theorem dX2_renewed_2_43 : decode cX2_renewed_2 43 = .ok (.invokestatic 238, 3) := dk_184 0 238 (dk_at dksX2_renewed_2_1 19 rfl rfl)
theorem dX2_renewed_2_46 : decode cX2_renewed_2 46 = .ok (.astore 7, 2) := dk_58 7 (dk_at dksX2_renewed_2_1 22 rfl rfl)
theorem dX2_renewed_2_48 : decode cX2_renewed_2 48 = .ok (.aload 5, 2) := dk_25 5 (dk_at dksX2_renewed_2_2 0 rfl rfl)
theorem dX2_renewed_2_50 : decode cX2_renewed_2 50 = .ok (.getfield 85, 3) := dk_180 0 85 (dk_at dksX2_renewed_2_2 2 rfl rfl)
theorem dX2_renewed_2_53 : decode cX2_renewed_2 53 = .ok (.aload_n 1, 1) := dk_43 (dk_at dksX2_renewed_2_2 5 rfl rfl)
theorem dX2_renewed_2_54 : decode cX2_renewed_2 54 = .ok (.aload_n 2, 1) := dk_44 (dk_at dksX2_renewed_2_2 6 rfl rfl)
theorem dX2_renewed_2_55 : decode cX2_renewed_2 55 = .ok (.lload_n 3, 1) := dk_33 (dk_at dksX2_renewed_2_2 7 rfl rfl)
theorem dX2_renewed_2_56 : decode cX2_renewed_2 56 = .ok (.invokestatic 238, 3) := dk_184 0 238 (dk_at dksX2_renewed_2_2 8 rfl rfl)
theorem dX2_renewed_2_59 : decode cX2_renewed_2 59 = .ok (.astore 8, 2) := dk_58 8 (dk_at dksX2_renewed_2_2 11 rfl rfl)
theorem dX2_renewed_2_61 : decode cX2_renewed_2 61 = .ok (.aload 7, 2) := dk_25 7 (dk_at dksX2_renewed_2_2 13 rfl rfl)
theorem dX2_renewed_2_63 : decode cX2_renewed_2 63 = .ok (.aload 5, 2) := dk_25 5 (dk_at dksX2_renewed_2_2 15 rfl rfl)
theorem dX2_renewed_2_65 : decode cX2_renewed_2 65 = .ok (.getfield 81, 3) := dk_180 0 81 (dk_at dksX2_renewed_2_2 17 rfl rfl)
theorem dX2_renewed_2_68 : decode cX2_renewed_2 68 = .ok (.invokevirtual 111, 3) := dk_182 0 111 (dk_at dksX2_renewed_2_2 20 rfl rfl)
theorem dX2_renewed_2_71 : decode cX2_renewed_2 71 = .ok (.if_acmp .ne 21, 3) := dk_166 0 21 (dk_at dksX2_renewed_2_3 0 rfl rfl)
theorem dX2_renewed_2_74 : decode cX2_renewed_2 74 = .ok (.aload 8, 2) := dk_25 8 (dk_at dksX2_renewed_2_3 3 rfl rfl)
theorem dX2_renewed_2_76 : decode cX2_renewed_2 76 = .ok (.aload 5, 2) := dk_25 5 (dk_at dksX2_renewed_2_3 5 rfl rfl)
theorem dX2_renewed_2_78 : decode cX2_renewed_2 78 = .ok (.getfield 85, 3) := dk_180 0 85 (dk_at dksX2_renewed_2_3 7 rfl rfl)
theorem dX2_renewed_2_81 : decode cX2_renewed_2 81 = .ok (.invokevirtual 111, 3) := dk_182 0 111 (dk_at dksX2_renewed_2_3 10 rfl rfl)
theorem dX2_renewed_2_84 : decode cX2_renewed_2 84 = .ok (.if_acmp .ne 8, 3) := dk_166 0 8 (dk_at dksX2_renewed_2_3 13 rfl rfl)
theorem dX2_renewed_2_87 : decode cX2_renewed_2 87 = .ok (.aload 5, 2) := dk_25 5 (dk_at dksX2_renewed_2_3 16 rfl rfl)
theorem dX2_renewed_2_89 : decode cX2_renewed_2 89 = .ok (.goto 10, 3) := dk_167 0 10 (dk_at dksX2_renewed_2_3 18 rfl rfl)
theorem dX2_renewed_2_92 : decode cX2_renewed_2 92 = .ok (.aload 7, 2) := dk_25 7 (dk_at dksX2_renewed_2_3 21 rfl rfl)
theorem dX2_renewed_2_94 : decode cX2_renewed_2 94 = .ok (.aload 8, 2) := dk_25 8 (dk_at dksX2_renewed_2_4 0 rfl rfl)
theorem dX2_renewed_2_96 : decode cX2_renewed_2 96 = .ok (.invokestatic 242, 3) := dk_184 0 242 (dk_at dksX2_renewed_2_4 2 rfl rfl)
theorem dX2_renewed_2_99 : decode cX2_renewed_2 99 = .ok (.astore 6, 2) := dk_58 6 (dk_at dksX2_renewed_2_4 5 rfl rfl)
theorem dX2_renewed_2_101 : decode cX2_renewed_2 101 = .ok (.goto 64, 3) := dk_167 0 64 (dk_at dksX2_renewed_2_4 7 rfl rfl)
theorem dX2_renewed_2_104 : decode cX2_renewed_2 104 = .ok (.aload 5, 2) := dk_25 5 (dk_at dksX2_renewed_2_4 10 rfl rfl)
theorem dX2_renewed_2_106 : decode cX2_renewed_2 106 = .ok (.getfield 118, 3) := dk_180 0 118 (dk_at dksX2_renewed_2_4 12 rfl rfl)
theorem dX2_renewed_2_109 : decode cX2_renewed_2 109 = .ok (.iconst 3, 1) := dk_6 (dk_at dksX2_renewed_2_4 15 rfl rfl)
theorem dX2_renewed_2_110 : decode cX2_renewed_2 110 = .ok (.if_icmp .eq 12, 3) := dk_159 0 12 (dk_at dksX2_renewed_2_4 16 rfl rfl)
theorem dX2_renewed_2_113 : decode cX2_renewed_2 113 = .ok (.aload 5, 2) := dk_25 5 (dk_at dksX2_renewed_2_4 19 rfl rfl)
theorem dX2_renewed_2_115 : decode cX2_renewed_2 115 = .ok (.getfield 118, 3) := dk_180 0 118 (dk_at dksX2_renewed_2_4 21 rfl rfl)
theorem dX2_renewed_2_118 : decode cX2_renewed_2 118 = .ok (.iconst 4, 1) := dk_7 (dk_at dksX2_renewed_2_5 0 rfl rfl)
theorem dX2_renewed_2_119 : decode cX2_renewed_2 119 = .ok (.if_icmp .ne 46, 3) := dk_160 0 46 (dk_at dksX2_renewed_2_5 1 rfl rfl)
theorem dX2_renewed_2_122 : decode cX2_renewed_2 122 = .ok (.aload 5, 2) := dk_25 5 (dk_at dksX2_renewed_2_5 4 rfl rfl)
theorem dX2_renewed_2_124 : decode cX2_renewed_2 124 = .ok (.getfield 88, 3) := dk_180 0 88 (dk_at dksX2_renewed_2_5 6 rfl rfl)
theorem dX2_renewed_2_127 : decode cX2_renewed_2 127 = .ok (.aload_n 1, 1) := dk_43 (dk_at dksX2_renewed_2_5 9 rfl rfl)
theorem dX2_renewed_2_128 : decode cX2_renewed_2 128 = .ok (.aload_n 2, 1) := dk_44 (dk_at dksX2_renewed_2_5 10 rfl rfl)
theorem dX2_renewed_2_129 : decode cX2_renewed_2 129 = .ok (.lload_n 3, 1) := dk_33 (dk_at dksX2_renewed_2_5 11 rfl rfl)
theorem dX2_renewed_2_130 : decode cX2_renewed_2 130 = .ok (.invokestatic 246, 3) := dk_184 0 246 (dk_at dksX2_renewed_2_5 12 rfl rfl)
theorem dX2_renewed_2_133 : decode cX2_renewed_2 133 = .ok (.astore 7, 2) := dk_58 7 (dk_at dksX2_renewed_2_5 15 rfl rfl)
theorem dX2_renewed_2_135 : decode cX2_renewed_2 135 = .ok (.aload 7, 2) := dk_25 7 (dk_at dksX2_renewed_2_5 17 rfl rfl)
theorem dX2_renewed_2_137 : decode cX2_renewed_2 137 = .ok (.aload 5, 2) := dk_25 5 (dk_at dksX2_renewed_2_5 19 rfl rfl)
theorem dX2_renewed_2_139 : decode cX2_renewed_2 139 = .ok (.getfield 88, 3) := dk_180 0 88 (dk_at dksX2_renewed_2_5 21 rfl rfl)
theorem dX2_renewed_2_142 : decode cX2_renewed_2 142 = .ok (.invokevirtual 128, 3) := dk_182 0 128 (dk_at dksX2_renewed_2_6 0 rfl rfl)
theorem dX2_renewed_2_145 : decode cX2_renewed_2 145 = .ok (.if_acmp .ne 8, 3) := dk_166 0 8 (dk_at dksX2_renewed_2_6 3 rfl rfl)
theorem dX2_renewed_2_148 : decode cX2_renewed_2 148 = .ok (.aload 5, 2) := dk_25 5 (dk_at dksX2_renewed_2_6 6 rfl rfl)
theorem dX2_renewed_2_150 : decode cX2_renewed_2 150 = .ok (.goto 13, 3) := dk_167 0 13 (dk_at dksX2_renewed_2_6 8 rfl rfl)
theorem dX2_renewed_2_153 : decode cX2_renewed_2 153 = .ok (.aload 5, 2) := dk_25 5 (dk_at dksX2_renewed_2_6 11 rfl rfl)
theorem dX2_renewed_2_155 : decode cX2_renewed_2 155 = .ok (.getfield 118, 3) := dk_180 0 118 (dk_at dksX2_renewed_2_6 13 rfl rfl)
theorem dX2_renewed_2_158 : decode cX2_renewed_2 158 = .ok (.aload 7, 2) := dk_25 7 (dk_at dksX2_renewed_2_6 16 rfl rfl)
theorem dX2_renewed_2_160 : decode cX2_renewed_2 160 = .ok (.invokestatic 250, 3) := dk_184 0 250 (dk_at dksX2_renewed_2_6 18 rfl rfl)
theorem dX2_renewed_2_163 : decode cX2_renewed_2 163 = .ok (.astore 6, 2) := dk_58 6 (dk_at dksX2_renewed_2_6 21 rfl rfl)
theorem dX2_renewed_2_165 : decode cX2_renewed_2 165 = .ok (.aload 5, 2) := dk_25 5 (dk_at dksX2_renewed_2_7 0 rfl rfl)
theorem dX2_renewed_2_167 : decode cX2_renewed_2 167 = .ok (.lload_n 3, 1) := dk_33 (dk_at dksX2_renewed_2_7 2 rfl rfl)
theorem dX2_renewed_2_168 : decode cX2_renewed_2 168 = .ok (.putfield 115, 3) := dk_181 0 115 (dk_at dksX2_renewed_2_7 3 rfl rfl)
theorem dX2_renewed_2_171 : decode cX2_renewed_2 171 = .ok (.aload 5, 2) := dk_25 5 (dk_at dksX2_renewed_2_7 6 rfl rfl)
theorem dX2_renewed_2_173 : decode cX2_renewed_2 173 = .ok (.aload 6, 2) := dk_25 6 (dk_at dksX2_renewed_2_7 8 rfl rfl)
theorem dX2_renewed_2_175 : decode cX2_renewed_2 175 = .ok (.putfield 235, 3) := dk_181 0 235 (dk_at dksX2_renewed_2_7 10 rfl rfl)
theorem dX2_renewed_2_178 : decode cX2_renewed_2 178 = .ok (.aload 6, 2) := dk_25 6 (dk_at dksX2_renewed_2_7 13 rfl rfl)
theorem dX2_renewed_2_180 : decode cX2_renewed_2 180 = .ok (.areturn, 1) := dk_176 (dk_at dksX2_renewed_2_7 15 rfl rfl)
abbrev cX2_function : ByteArray := prog_45_method_16_code
def yX2_function : MethodName := ⟨RX2, "function", "(LRowenTongueModel$Type;LRowenTongueModel$Type;)LRowenTongueModel$Type;"⟩
def dkwX2_function_0 : List UInt8 := [187, 0, 76, 89, 5, 183, 0, 78, 77, 44, 42, 181, 0, 81, 44, 43, 181, 0, 85, 44, 176]
abbrev dktX2_function_0 : List UInt8 := dkwX2_function_0 ++ []
theorem dksX2_function_0 : cX2_function.data.toList.drop 0 = dktX2_function_0 := by decide +kernel
theorem dX2_function_0 : decode cX2_function 0 = .ok (.new 76, 3) := dk_187 0 76 (dk_at dksX2_function_0 0 rfl rfl)
theorem dX2_function_3 : decode cX2_function 3 = .ok (.dup, 1) := dk_89 (dk_at dksX2_function_0 3 rfl rfl)
theorem dX2_function_4 : decode cX2_function 4 = .ok (.iconst 2, 1) := dk_5 (dk_at dksX2_function_0 4 rfl rfl)
theorem dX2_function_5 : decode cX2_function 5 = .ok (.invokespecial 78, 3) := dk_183 0 78 (dk_at dksX2_function_0 5 rfl rfl)
theorem dX2_function_8 : decode cX2_function 8 = .ok (.astore_n 2, 1) := dk_77 (dk_at dksX2_function_0 8 rfl rfl)
theorem dX2_function_9 : decode cX2_function 9 = .ok (.aload_n 2, 1) := dk_44 (dk_at dksX2_function_0 9 rfl rfl)
theorem dX2_function_10 : decode cX2_function 10 = .ok (.aload_n 0, 1) := dk_42 (dk_at dksX2_function_0 10 rfl rfl)
theorem dX2_function_11 : decode cX2_function 11 = .ok (.putfield 81, 3) := dk_181 0 81 (dk_at dksX2_function_0 11 rfl rfl)
theorem dX2_function_14 : decode cX2_function 14 = .ok (.aload_n 2, 1) := dk_44 (dk_at dksX2_function_0 14 rfl rfl)
theorem dX2_function_15 : decode cX2_function 15 = .ok (.aload_n 1, 1) := dk_43 (dk_at dksX2_function_0 15 rfl rfl)
theorem dX2_function_16 : decode cX2_function 16 = .ok (.putfield 85, 3) := dk_181 0 85 (dk_at dksX2_function_0 16 rfl rfl)
theorem dX2_function_19 : decode cX2_function 19 = .ok (.aload_n 2, 1) := dk_44 (dk_at dksX2_function_0 19 rfl rfl)
theorem dX2_function_20 : decode cX2_function 20 = .ok (.areturn, 1) := dk_176 (dk_at dksX2_function_0 20 rfl rfl)
abbrev cX2_renewedRow : ByteArray := prog_45_method_35_code
def yX2_renewedRow : MethodName := ⟨RX2, "renewedRow", "(LRowenTongueModel$Row;LRowenTongueModel$Known;[LRowenTongueModel$Row;J)LRowenTongueModel$Row;"⟩
def dkwX2_renewedRow_5 : List UInt8 := [167, 0, 7, 44, 21, 6, 50, 176]
abbrev dktX2_renewedRow_5 : List UInt8 := dkwX2_renewedRow_5 ++ []
def dkwX2_renewedRow_4 : List UInt8 := [43, 180, 0, 227, 25, 5, 182, 0, 254, 167, 0, 4, 2, 54, 6, 21, 6, 156, 0, 8, 25, 5]
abbrev dktX2_renewedRow_4 : List UInt8 := dkwX2_renewedRow_4 ++ dktX2_renewedRow_5
def dkwX2_renewedRow_3 : List UInt8 := [167, 0, 15, 25, 5, 180, 0, 98, 25, 6, 25, 7, 184, 0, 162, 176, 25, 5, 180, 0, 131, 154, 0, 15]
abbrev dktX2_renewedRow_3 : List UInt8 := dkwX2_renewedRow_3 ++ dktX2_renewedRow_4
def dkwX2_renewedRow_2 : List UInt8 := [180, 0, 101, 182, 0, 111, 166, 0, 21, 25, 7, 25, 5, 180, 0, 104, 182, 0, 128, 166, 0, 8, 25, 5]
abbrev dktX2_renewedRow_2 : List UInt8 := dkwX2_renewedRow_2 ++ dktX2_renewedRow_3
def dkwX2_renewedRow_1 : List UInt8 := [184, 0, 238, 58, 6, 25, 5, 180, 0, 104, 43, 44, 33, 184, 0, 246, 58, 7, 25, 6, 25, 5]
abbrev dktX2_renewedRow_1 : List UInt8 := dkwX2_renewedRow_1 ++ dktX2_renewedRow_2
def dkwX2_renewedRow_0 : List UInt8 := [42, 182, 0, 128, 58, 5, 25, 5, 180, 0, 131, 5, 160, 0, 73, 25, 5, 180, 0, 101, 43, 44, 33]
abbrev dktX2_renewedRow_0 : List UInt8 := dkwX2_renewedRow_0 ++ dktX2_renewedRow_1
theorem dksX2_renewedRow_0 : cX2_renewedRow.data.toList.drop 0 = dktX2_renewedRow_0 := by decide +kernel
theorem dksX2_renewedRow_1 : cX2_renewedRow.data.toList.drop 23 = dktX2_renewedRow_1 := dk_seg dksX2_renewedRow_0 23 rfl rfl
theorem dksX2_renewedRow_2 : cX2_renewedRow.data.toList.drop 45 = dktX2_renewedRow_2 := dk_seg dksX2_renewedRow_1 22 rfl rfl
theorem dksX2_renewedRow_3 : cX2_renewedRow.data.toList.drop 69 = dktX2_renewedRow_3 := dk_seg dksX2_renewedRow_2 24 rfl rfl
theorem dksX2_renewedRow_4 : cX2_renewedRow.data.toList.drop 93 = dktX2_renewedRow_4 := dk_seg dksX2_renewedRow_3 24 rfl rfl
theorem dksX2_renewedRow_5 : cX2_renewedRow.data.toList.drop 115 = dktX2_renewedRow_5 := dk_seg dksX2_renewedRow_4 22 rfl rfl
theorem dX2_renewedRow_0 : decode cX2_renewedRow 0 = .ok (.aload_n 0, 1) := dk_42 (dk_at dksX2_renewedRow_0 0 rfl rfl)
theorem dX2_renewedRow_1 : decode cX2_renewedRow 1 = .ok (.invokevirtual 128, 3) := dk_182 0 128 (dk_at dksX2_renewedRow_0 1 rfl rfl)
theorem dX2_renewedRow_4 : decode cX2_renewedRow 4 = .ok (.astore 5, 2) := dk_58 5 (dk_at dksX2_renewedRow_0 4 rfl rfl)
theorem dX2_renewedRow_6 : decode cX2_renewedRow 6 = .ok (.aload 5, 2) := dk_25 5 (dk_at dksX2_renewedRow_0 6 rfl rfl)
theorem dX2_renewedRow_8 : decode cX2_renewedRow 8 = .ok (.getfield 131, 3) := dk_180 0 131 (dk_at dksX2_renewedRow_0 8 rfl rfl)
theorem dX2_renewedRow_11 : decode cX2_renewedRow 11 = .ok (.iconst 2, 1) := dk_5 (dk_at dksX2_renewedRow_0 11 rfl rfl)
theorem dX2_renewedRow_12 : decode cX2_renewedRow 12 = .ok (.if_icmp .ne 73, 3) := dk_160 0 73 (dk_at dksX2_renewedRow_0 12 rfl rfl)
theorem dX2_renewedRow_15 : decode cX2_renewedRow 15 = .ok (.aload 5, 2) := dk_25 5 (dk_at dksX2_renewedRow_0 15 rfl rfl)
theorem dX2_renewedRow_17 : decode cX2_renewedRow 17 = .ok (.getfield 101, 3) := dk_180 0 101 (dk_at dksX2_renewedRow_0 17 rfl rfl)
theorem dX2_renewedRow_20 : decode cX2_renewedRow 20 = .ok (.aload_n 1, 1) := dk_43 (dk_at dksX2_renewedRow_0 20 rfl rfl)
theorem dX2_renewedRow_21 : decode cX2_renewedRow 21 = .ok (.aload_n 2, 1) := dk_44 (dk_at dksX2_renewedRow_0 21 rfl rfl)
theorem dX2_renewedRow_22 : decode cX2_renewedRow 22 = .ok (.lload_n 3, 1) := dk_33 (dk_at dksX2_renewedRow_0 22 rfl rfl)
theorem dX2_renewedRow_23 : decode cX2_renewedRow 23 = .ok (.invokestatic 238, 3) := dk_184 0 238 (dk_at dksX2_renewedRow_1 0 rfl rfl)
theorem dX2_renewedRow_26 : decode cX2_renewedRow 26 = .ok (.astore 6, 2) := dk_58 6 (dk_at dksX2_renewedRow_1 3 rfl rfl)
theorem dX2_renewedRow_28 : decode cX2_renewedRow 28 = .ok (.aload 5, 2) := dk_25 5 (dk_at dksX2_renewedRow_1 5 rfl rfl)
theorem dX2_renewedRow_30 : decode cX2_renewedRow 30 = .ok (.getfield 104, 3) := dk_180 0 104 (dk_at dksX2_renewedRow_1 7 rfl rfl)
theorem dX2_renewedRow_33 : decode cX2_renewedRow 33 = .ok (.aload_n 1, 1) := dk_43 (dk_at dksX2_renewedRow_1 10 rfl rfl)
theorem dX2_renewedRow_34 : decode cX2_renewedRow 34 = .ok (.aload_n 2, 1) := dk_44 (dk_at dksX2_renewedRow_1 11 rfl rfl)
theorem dX2_renewedRow_35 : decode cX2_renewedRow 35 = .ok (.lload_n 3, 1) := dk_33 (dk_at dksX2_renewedRow_1 12 rfl rfl)
theorem dX2_renewedRow_36 : decode cX2_renewedRow 36 = .ok (.invokestatic 246, 3) := dk_184 0 246 (dk_at dksX2_renewedRow_1 13 rfl rfl)
theorem dX2_renewedRow_39 : decode cX2_renewedRow 39 = .ok (.astore 7, 2) := dk_58 7 (dk_at dksX2_renewedRow_1 16 rfl rfl)
theorem dX2_renewedRow_41 : decode cX2_renewedRow 41 = .ok (.aload 6, 2) := dk_25 6 (dk_at dksX2_renewedRow_1 18 rfl rfl)
theorem dX2_renewedRow_43 : decode cX2_renewedRow 43 = .ok (.aload 5, 2) := dk_25 5 (dk_at dksX2_renewedRow_1 20 rfl rfl)
theorem dX2_renewedRow_45 : decode cX2_renewedRow 45 = .ok (.getfield 101, 3) := dk_180 0 101 (dk_at dksX2_renewedRow_2 0 rfl rfl)
theorem dX2_renewedRow_48 : decode cX2_renewedRow 48 = .ok (.invokevirtual 111, 3) := dk_182 0 111 (dk_at dksX2_renewedRow_2 3 rfl rfl)
theorem dX2_renewedRow_51 : decode cX2_renewedRow 51 = .ok (.if_acmp .ne 21, 3) := dk_166 0 21 (dk_at dksX2_renewedRow_2 6 rfl rfl)
theorem dX2_renewedRow_54 : decode cX2_renewedRow 54 = .ok (.aload 7, 2) := dk_25 7 (dk_at dksX2_renewedRow_2 9 rfl rfl)
theorem dX2_renewedRow_56 : decode cX2_renewedRow 56 = .ok (.aload 5, 2) := dk_25 5 (dk_at dksX2_renewedRow_2 11 rfl rfl)
theorem dX2_renewedRow_58 : decode cX2_renewedRow 58 = .ok (.getfield 104, 3) := dk_180 0 104 (dk_at dksX2_renewedRow_2 13 rfl rfl)
theorem dX2_renewedRow_61 : decode cX2_renewedRow 61 = .ok (.invokevirtual 128, 3) := dk_182 0 128 (dk_at dksX2_renewedRow_2 16 rfl rfl)
theorem dX2_renewedRow_64 : decode cX2_renewedRow 64 = .ok (.if_acmp .ne 8, 3) := dk_166 0 8 (dk_at dksX2_renewedRow_2 19 rfl rfl)
theorem dX2_renewedRow_67 : decode cX2_renewedRow 67 = .ok (.aload 5, 2) := dk_25 5 (dk_at dksX2_renewedRow_2 22 rfl rfl)
theorem dX2_renewedRow_69 : decode cX2_renewedRow 69 = .ok (.goto 15, 3) := dk_167 0 15 (dk_at dksX2_renewedRow_3 0 rfl rfl)
theorem dX2_renewedRow_72 : decode cX2_renewedRow 72 = .ok (.aload 5, 2) := dk_25 5 (dk_at dksX2_renewedRow_3 3 rfl rfl)
theorem dX2_renewedRow_74 : decode cX2_renewedRow 74 = .ok (.getfield 98, 3) := dk_180 0 98 (dk_at dksX2_renewedRow_3 5 rfl rfl)
theorem dX2_renewedRow_77 : decode cX2_renewedRow 77 = .ok (.aload 6, 2) := dk_25 6 (dk_at dksX2_renewedRow_3 8 rfl rfl)
theorem dX2_renewedRow_79 : decode cX2_renewedRow 79 = .ok (.aload 7, 2) := dk_25 7 (dk_at dksX2_renewedRow_3 10 rfl rfl)
theorem dX2_renewedRow_81 : decode cX2_renewedRow 81 = .ok (.invokestatic 162, 3) := dk_184 0 162 (dk_at dksX2_renewedRow_3 12 rfl rfl)
theorem dX2_renewedRow_84 : decode cX2_renewedRow 84 = .ok (.areturn, 1) := dk_176 (dk_at dksX2_renewedRow_3 15 rfl rfl)
theorem dX2_renewedRow_85 : decode cX2_renewedRow 85 = .ok (.aload 5, 2) := dk_25 5 (dk_at dksX2_renewedRow_3 16 rfl rfl)
theorem dX2_renewedRow_87 : decode cX2_renewedRow 87 = .ok (.getfield 131, 3) := dk_180 0 131 (dk_at dksX2_renewedRow_3 18 rfl rfl)
theorem dX2_renewedRow_90 : decode cX2_renewedRow 90 = .ok (.ifCond .ne 15, 3) := dk_154 0 15 (dk_at dksX2_renewedRow_3 21 rfl rfl)
theorem dX2_renewedRow_93 : decode cX2_renewedRow 93 = .ok (.aload_n 1, 1) := dk_43 (dk_at dksX2_renewedRow_4 0 rfl rfl)
theorem dX2_renewedRow_94 : decode cX2_renewedRow 94 = .ok (.getfield 227, 3) := dk_180 0 227 (dk_at dksX2_renewedRow_4 1 rfl rfl)
theorem dX2_renewedRow_97 : decode cX2_renewedRow 97 = .ok (.aload 5, 2) := dk_25 5 (dk_at dksX2_renewedRow_4 4 rfl rfl)
theorem dX2_renewedRow_99 : decode cX2_renewedRow 99 = .ok (.invokevirtual 254, 3) := dk_182 0 254 (dk_at dksX2_renewedRow_4 6 rfl rfl)
theorem dX2_renewedRow_102 : decode cX2_renewedRow 102 = .ok (.goto 4, 3) := dk_167 0 4 (dk_at dksX2_renewedRow_4 9 rfl rfl)
theorem dX2_renewedRow_105 : decode cX2_renewedRow 105 = .ok (.iconst (-1), 1) := dk_2 (dk_at dksX2_renewedRow_4 12 rfl rfl)
theorem dX2_renewedRow_106 : decode cX2_renewedRow 106 = .ok (.istore 6, 2) := dk_54 6 (dk_at dksX2_renewedRow_4 13 rfl rfl)
theorem dX2_renewedRow_108 : decode cX2_renewedRow 108 = .ok (.iload 6, 2) := dk_21 6 (dk_at dksX2_renewedRow_4 15 rfl rfl)
theorem dX2_renewedRow_110 : decode cX2_renewedRow 110 = .ok (.ifCond .ge 8, 3) := dk_156 0 8 (dk_at dksX2_renewedRow_4 17 rfl rfl)
theorem dX2_renewedRow_113 : decode cX2_renewedRow 113 = .ok (.aload 5, 2) := dk_25 5 (dk_at dksX2_renewedRow_4 20 rfl rfl)
theorem dX2_renewedRow_115 : decode cX2_renewedRow 115 = .ok (.goto 7, 3) := dk_167 0 7 (dk_at dksX2_renewedRow_5 0 rfl rfl)
theorem dX2_renewedRow_118 : decode cX2_renewedRow 118 = .ok (.aload_n 2, 1) := dk_44 (dk_at dksX2_renewedRow_5 3 rfl rfl)
theorem dX2_renewedRow_119 : decode cX2_renewedRow 119 = .ok (.iload 6, 2) := dk_21 6 (dk_at dksX2_renewedRow_5 4 rfl rfl)
theorem dX2_renewedRow_121 : decode cX2_renewedRow 121 = .ok (.aaload, 1) := dk_50 (dk_at dksX2_renewedRow_5 6 rfl rfl)
theorem dX2_renewedRow_122 : decode cX2_renewedRow 122 = .ok (.areturn, 1) := dk_176 (dk_at dksX2_renewedRow_5 7 rfl rfl)
abbrev cX2_row : ByteArray := prog_45_method_19_code
def yX2_row : MethodName := ⟨RX2, "row", "(ILRowenTongueModel$Type;LRowenTongueModel$Row;)LRowenTongueModel$Row;"⟩
def dkwX2_row_1 : List UInt8 := [45, 176]
abbrev dktX2_row_1 : List UInt8 := dkwX2_row_1 ++ []
def dkwX2_row_0 : List UInt8 := [187, 0, 92, 89, 5, 183, 0, 94, 78, 45, 26, 181, 0, 98, 45, 43, 181, 0, 101, 45, 44, 181, 0, 104]
abbrev dktX2_row_0 : List UInt8 := dkwX2_row_0 ++ dktX2_row_1
theorem dksX2_row_0 : cX2_row.data.toList.drop 0 = dktX2_row_0 := by decide +kernel
theorem dksX2_row_1 : cX2_row.data.toList.drop 24 = dktX2_row_1 := dk_seg dksX2_row_0 24 rfl rfl
theorem dX2_row_0 : decode cX2_row 0 = .ok (.new 92, 3) := dk_187 0 92 (dk_at dksX2_row_0 0 rfl rfl)
theorem dX2_row_3 : decode cX2_row 3 = .ok (.dup, 1) := dk_89 (dk_at dksX2_row_0 3 rfl rfl)
theorem dX2_row_4 : decode cX2_row 4 = .ok (.iconst 2, 1) := dk_5 (dk_at dksX2_row_0 4 rfl rfl)
theorem dX2_row_5 : decode cX2_row 5 = .ok (.invokespecial 94, 3) := dk_183 0 94 (dk_at dksX2_row_0 5 rfl rfl)
theorem dX2_row_8 : decode cX2_row 8 = .ok (.astore_n 3, 1) := dk_78 (dk_at dksX2_row_0 8 rfl rfl)
theorem dX2_row_9 : decode cX2_row 9 = .ok (.aload_n 3, 1) := dk_45 (dk_at dksX2_row_0 9 rfl rfl)
theorem dX2_row_10 : decode cX2_row 10 = .ok (.iload_n 0, 1) := dk_26 (dk_at dksX2_row_0 10 rfl rfl)
theorem dX2_row_11 : decode cX2_row 11 = .ok (.putfield 98, 3) := dk_181 0 98 (dk_at dksX2_row_0 11 rfl rfl)
theorem dX2_row_14 : decode cX2_row 14 = .ok (.aload_n 3, 1) := dk_45 (dk_at dksX2_row_0 14 rfl rfl)
theorem dX2_row_15 : decode cX2_row 15 = .ok (.aload_n 1, 1) := dk_43 (dk_at dksX2_row_0 15 rfl rfl)
theorem dX2_row_16 : decode cX2_row 16 = .ok (.putfield 101, 3) := dk_181 0 101 (dk_at dksX2_row_0 16 rfl rfl)
theorem dX2_row_19 : decode cX2_row 19 = .ok (.aload_n 3, 1) := dk_45 (dk_at dksX2_row_0 19 rfl rfl)
theorem dX2_row_20 : decode cX2_row 20 = .ok (.aload_n 2, 1) := dk_44 (dk_at dksX2_row_0 20 rfl rfl)
theorem dX2_row_21 : decode cX2_row 21 = .ok (.putfield 104, 3) := dk_181 0 104 (dk_at dksX2_row_0 21 rfl rfl)
theorem dX2_row_24 : decode cX2_row 24 = .ok (.aload_n 3, 1) := dk_45 (dk_at dksX2_row_1 0 rfl rfl)
theorem dX2_row_25 : decode cX2_row 25 = .ok (.areturn, 1) := dk_176 (dk_at dksX2_row_1 1 rfl rfl)
abbrev cX2_of : ByteArray := prog_45_method_17_code
def yX2_of : MethodName := ⟨RX2, "of", "(ILRowenTongueModel$Row;)LRowenTongueModel$Type;"⟩
def dkwX2_of_0 : List UInt8 := [187, 0, 76, 89, 26, 183, 0, 78, 77, 44, 43, 181, 0, 88, 44, 176]
abbrev dktX2_of_0 : List UInt8 := dkwX2_of_0 ++ []
theorem dksX2_of_0 : cX2_of.data.toList.drop 0 = dktX2_of_0 := by decide +kernel
theorem dX2_of_0 : decode cX2_of 0 = .ok (.new 76, 3) := dk_187 0 76 (dk_at dksX2_of_0 0 rfl rfl)
theorem dX2_of_3 : decode cX2_of 3 = .ok (.dup, 1) := dk_89 (dk_at dksX2_of_0 3 rfl rfl)
theorem dX2_of_4 : decode cX2_of 4 = .ok (.iload_n 0, 1) := dk_26 (dk_at dksX2_of_0 4 rfl rfl)
theorem dX2_of_5 : decode cX2_of 5 = .ok (.invokespecial 78, 3) := dk_183 0 78 (dk_at dksX2_of_0 5 rfl rfl)
theorem dX2_of_8 : decode cX2_of 8 = .ok (.astore_n 2, 1) := dk_77 (dk_at dksX2_of_0 8 rfl rfl)
theorem dX2_of_9 : decode cX2_of 9 = .ok (.aload_n 2, 1) := dk_44 (dk_at dksX2_of_0 9 rfl rfl)
theorem dX2_of_10 : decode cX2_of 10 = .ok (.aload_n 1, 1) := dk_43 (dk_at dksX2_of_0 10 rfl rfl)
theorem dX2_of_11 : decode cX2_of 11 = .ok (.putfield 88, 3) := dk_181 0 88 (dk_at dksX2_of_0 11 rfl rfl)
theorem dX2_of_14 : decode cX2_of 14 = .ok (.aload_n 2, 1) := dk_44 (dk_at dksX2_of_0 14 rfl rfl)
theorem dX2_of_15 : decode cX2_of 15 = .ok (.areturn, 1) := dk_176 (dk_at dksX2_of_0 15 rfl rfl)
abbrev cX2_same : ByteArray := prog_45_method_25_code
def yX2_same : MethodName := ⟨RX2, "same", "(LRowenTongueModel$Type;LRowenTongueModel$Type;)V"⟩
def dkwX2_same_6 : List UInt8 := [182, 0, 111, 58, 6, 25, 5, 25, 6, 165, 0, 10, 25, 5, 25, 6, 181, 0, 148, 177]
abbrev dktX2_same_6 : List UInt8 := dkwX2_same_6 ++ []
def dkwX2_same_5 : List UInt8 := [159, 0, 16, 42, 45, 180, 0, 88, 25, 4, 180, 0, 88, 182, 0, 158, 45, 182, 0, 111, 58, 5, 25, 4]
abbrev dktX2_same_5 : List UInt8 := dkwX2_same_5 ++ dktX2_same_6
def dkwX2_same_4 : List UInt8 := [182, 0, 155, 42, 45, 180, 0, 85, 25, 4, 180, 0, 85, 182, 0, 155, 167, 0, 24, 45, 180, 0, 118, 4]
abbrev dktX2_same_4 : List UInt8 := dkwX2_same_4 ++ dktX2_same_5
def dkwX2_same_3 : List UInt8 := [183, 0, 134, 191, 45, 180, 0, 118, 5, 160, 0, 32, 42, 45, 180, 0, 81, 25, 4, 180, 0, 81]
abbrev dktX2_same_3 : List UInt8 := dkwX2_same_3 ++ dktX2_same_4
def dkwX2_same_2 : List UInt8 := [45, 182, 0, 151, 167, 0, 109, 45, 180, 0, 118, 25, 4, 180, 0, 118, 159, 0, 12, 187, 0, 132, 89, 5]
abbrev dktX2_same_2 : List UInt8 := dkwX2_same_2 ++ dktX2_same_3
def dkwX2_same_1 : List UInt8 := [154, 0, 13, 42, 45, 25, 4, 182, 0, 151, 167, 0, 127, 25, 4, 180, 0, 118, 154, 0, 13, 42, 25, 4]
abbrev dktX2_same_1 : List UInt8 := dkwX2_same_1 ++ dktX2_same_2
def dkwX2_same_0 : List UInt8 := [43, 182, 0, 111, 78, 44, 182, 0, 111, 58, 4, 45, 25, 4, 166, 0, 4, 177, 45, 180, 0, 118]
abbrev dktX2_same_0 : List UInt8 := dkwX2_same_0 ++ dktX2_same_1
theorem dksX2_same_0 : cX2_same.data.toList.drop 0 = dktX2_same_0 := by decide +kernel
theorem dksX2_same_1 : cX2_same.data.toList.drop 22 = dktX2_same_1 := dk_seg dksX2_same_0 22 rfl rfl
theorem dksX2_same_2 : cX2_same.data.toList.drop 46 = dktX2_same_2 := dk_seg dksX2_same_1 24 rfl rfl
theorem dksX2_same_3 : cX2_same.data.toList.drop 70 = dktX2_same_3 := dk_seg dksX2_same_2 24 rfl rfl
theorem dksX2_same_4 : cX2_same.data.toList.drop 92 = dktX2_same_4 := dk_seg dksX2_same_3 22 rfl rfl
theorem dksX2_same_5 : cX2_same.data.toList.drop 116 = dktX2_same_5 := dk_seg dksX2_same_4 24 rfl rfl
theorem dksX2_same_6 : cX2_same.data.toList.drop 140 = dktX2_same_6 := dk_seg dksX2_same_5 24 rfl rfl
theorem dX2_same_0 : decode cX2_same 0 = .ok (.aload_n 1, 1) := dk_43 (dk_at dksX2_same_0 0 rfl rfl)
theorem dX2_same_1 : decode cX2_same 1 = .ok (.invokevirtual 111, 3) := dk_182 0 111 (dk_at dksX2_same_0 1 rfl rfl)
theorem dX2_same_4 : decode cX2_same 4 = .ok (.astore_n 3, 1) := dk_78 (dk_at dksX2_same_0 4 rfl rfl)
theorem dX2_same_5 : decode cX2_same 5 = .ok (.aload_n 2, 1) := dk_44 (dk_at dksX2_same_0 5 rfl rfl)
theorem dX2_same_6 : decode cX2_same 6 = .ok (.invokevirtual 111, 3) := dk_182 0 111 (dk_at dksX2_same_0 6 rfl rfl)
theorem dX2_same_9 : decode cX2_same 9 = .ok (.astore 4, 2) := dk_58 4 (dk_at dksX2_same_0 9 rfl rfl)
theorem dX2_same_11 : decode cX2_same 11 = .ok (.aload_n 3, 1) := dk_45 (dk_at dksX2_same_0 11 rfl rfl)
theorem dX2_same_12 : decode cX2_same 12 = .ok (.aload 4, 2) := dk_25 4 (dk_at dksX2_same_0 12 rfl rfl)
theorem dX2_same_14 : decode cX2_same 14 = .ok (.if_acmp .ne 4, 3) := dk_166 0 4 (dk_at dksX2_same_0 14 rfl rfl)
theorem dX2_same_17 : decode cX2_same 17 = .ok (.return_, 1) := dk_177 (dk_at dksX2_same_0 17 rfl rfl)
theorem dX2_same_18 : decode cX2_same 18 = .ok (.aload_n 3, 1) := dk_45 (dk_at dksX2_same_0 18 rfl rfl)
theorem dX2_same_19 : decode cX2_same 19 = .ok (.getfield 118, 3) := dk_180 0 118 (dk_at dksX2_same_0 19 rfl rfl)
theorem dX2_same_22 : decode cX2_same 22 = .ok (.ifCond .ne 13, 3) := dk_154 0 13 (dk_at dksX2_same_1 0 rfl rfl)
theorem dX2_same_25 : decode cX2_same 25 = .ok (.aload_n 0, 1) := dk_42 (dk_at dksX2_same_1 3 rfl rfl)
theorem dX2_same_26 : decode cX2_same 26 = .ok (.aload_n 3, 1) := dk_45 (dk_at dksX2_same_1 4 rfl rfl)
theorem dX2_same_27 : decode cX2_same 27 = .ok (.aload 4, 2) := dk_25 4 (dk_at dksX2_same_1 5 rfl rfl)
theorem dX2_same_29 : decode cX2_same 29 = .ok (.invokevirtual 151, 3) := dk_182 0 151 (dk_at dksX2_same_1 7 rfl rfl)
theorem dX2_same_32 : decode cX2_same 32 = .ok (.goto 127, 3) := dk_167 0 127 (dk_at dksX2_same_1 10 rfl rfl)
theorem dX2_same_35 : decode cX2_same 35 = .ok (.aload 4, 2) := dk_25 4 (dk_at dksX2_same_1 13 rfl rfl)
theorem dX2_same_37 : decode cX2_same 37 = .ok (.getfield 118, 3) := dk_180 0 118 (dk_at dksX2_same_1 15 rfl rfl)
theorem dX2_same_40 : decode cX2_same 40 = .ok (.ifCond .ne 13, 3) := dk_154 0 13 (dk_at dksX2_same_1 18 rfl rfl)
theorem dX2_same_43 : decode cX2_same 43 = .ok (.aload_n 0, 1) := dk_42 (dk_at dksX2_same_1 21 rfl rfl)
theorem dX2_same_44 : decode cX2_same 44 = .ok (.aload 4, 2) := dk_25 4 (dk_at dksX2_same_1 22 rfl rfl)
theorem dX2_same_46 : decode cX2_same 46 = .ok (.aload_n 3, 1) := dk_45 (dk_at dksX2_same_2 0 rfl rfl)
theorem dX2_same_47 : decode cX2_same 47 = .ok (.invokevirtual 151, 3) := dk_182 0 151 (dk_at dksX2_same_2 1 rfl rfl)
theorem dX2_same_50 : decode cX2_same 50 = .ok (.goto 109, 3) := dk_167 0 109 (dk_at dksX2_same_2 4 rfl rfl)
theorem dX2_same_53 : decode cX2_same 53 = .ok (.aload_n 3, 1) := dk_45 (dk_at dksX2_same_2 7 rfl rfl)
theorem dX2_same_54 : decode cX2_same 54 = .ok (.getfield 118, 3) := dk_180 0 118 (dk_at dksX2_same_2 8 rfl rfl)
theorem dX2_same_57 : decode cX2_same 57 = .ok (.aload 4, 2) := dk_25 4 (dk_at dksX2_same_2 11 rfl rfl)
theorem dX2_same_59 : decode cX2_same 59 = .ok (.getfield 118, 3) := dk_180 0 118 (dk_at dksX2_same_2 13 rfl rfl)
theorem dX2_same_62 : decode cX2_same 62 = .ok (.if_icmp .eq 12, 3) := dk_159 0 12 (dk_at dksX2_same_2 16 rfl rfl)
theorem dX2_same_65 : decode cX2_same 65 = .ok (.new 132, 3) := dk_187 0 132 (dk_at dksX2_same_2 19 rfl rfl)
theorem dX2_same_68 : decode cX2_same 68 = .ok (.dup, 1) := dk_89 (dk_at dksX2_same_2 22 rfl rfl)
theorem dX2_same_69 : decode cX2_same 69 = .ok (.iconst 2, 1) := dk_5 (dk_at dksX2_same_2 23 rfl rfl)
theorem dX2_same_70 : decode cX2_same 70 = .ok (.invokespecial 134, 3) := dk_183 0 134 (dk_at dksX2_same_3 0 rfl rfl)
theorem dX2_same_73 : decode cX2_same 73 = .ok (.athrow, 1) := dk_191 (dk_at dksX2_same_3 3 rfl rfl)
theorem dX2_same_74 : decode cX2_same 74 = .ok (.aload_n 3, 1) := dk_45 (dk_at dksX2_same_3 4 rfl rfl)
theorem dX2_same_75 : decode cX2_same 75 = .ok (.getfield 118, 3) := dk_180 0 118 (dk_at dksX2_same_3 5 rfl rfl)
theorem dX2_same_78 : decode cX2_same 78 = .ok (.iconst 2, 1) := dk_5 (dk_at dksX2_same_3 8 rfl rfl)
theorem dX2_same_79 : decode cX2_same 79 = .ok (.if_icmp .ne 32, 3) := dk_160 0 32 (dk_at dksX2_same_3 9 rfl rfl)
theorem dX2_same_82 : decode cX2_same 82 = .ok (.aload_n 0, 1) := dk_42 (dk_at dksX2_same_3 12 rfl rfl)
theorem dX2_same_83 : decode cX2_same 83 = .ok (.aload_n 3, 1) := dk_45 (dk_at dksX2_same_3 13 rfl rfl)
theorem dX2_same_84 : decode cX2_same 84 = .ok (.getfield 81, 3) := dk_180 0 81 (dk_at dksX2_same_3 14 rfl rfl)
theorem dX2_same_87 : decode cX2_same 87 = .ok (.aload 4, 2) := dk_25 4 (dk_at dksX2_same_3 17 rfl rfl)
theorem dX2_same_89 : decode cX2_same 89 = .ok (.getfield 81, 3) := dk_180 0 81 (dk_at dksX2_same_3 19 rfl rfl)
theorem dX2_same_92 : decode cX2_same 92 = .ok (.invokevirtual 155, 3) := dk_182 0 155 (dk_at dksX2_same_4 0 rfl rfl)
theorem dX2_same_95 : decode cX2_same 95 = .ok (.aload_n 0, 1) := dk_42 (dk_at dksX2_same_4 3 rfl rfl)
theorem dX2_same_96 : decode cX2_same 96 = .ok (.aload_n 3, 1) := dk_45 (dk_at dksX2_same_4 4 rfl rfl)
theorem dX2_same_97 : decode cX2_same 97 = .ok (.getfield 85, 3) := dk_180 0 85 (dk_at dksX2_same_4 5 rfl rfl)
theorem dX2_same_100 : decode cX2_same 100 = .ok (.aload 4, 2) := dk_25 4 (dk_at dksX2_same_4 8 rfl rfl)
theorem dX2_same_102 : decode cX2_same 102 = .ok (.getfield 85, 3) := dk_180 0 85 (dk_at dksX2_same_4 10 rfl rfl)
theorem dX2_same_105 : decode cX2_same 105 = .ok (.invokevirtual 155, 3) := dk_182 0 155 (dk_at dksX2_same_4 13 rfl rfl)
theorem dX2_same_108 : decode cX2_same 108 = .ok (.goto 24, 3) := dk_167 0 24 (dk_at dksX2_same_4 16 rfl rfl)
theorem dX2_same_111 : decode cX2_same 111 = .ok (.aload_n 3, 1) := dk_45 (dk_at dksX2_same_4 19 rfl rfl)
theorem dX2_same_112 : decode cX2_same 112 = .ok (.getfield 118, 3) := dk_180 0 118 (dk_at dksX2_same_4 20 rfl rfl)
theorem dX2_same_115 : decode cX2_same 115 = .ok (.iconst 1, 1) := dk_4 (dk_at dksX2_same_4 23 rfl rfl)
theorem dX2_same_116 : decode cX2_same 116 = .ok (.if_icmp .eq 16, 3) := dk_159 0 16 (dk_at dksX2_same_5 0 rfl rfl)
theorem dX2_same_119 : decode cX2_same 119 = .ok (.aload_n 0, 1) := dk_42 (dk_at dksX2_same_5 3 rfl rfl)
theorem dX2_same_120 : decode cX2_same 120 = .ok (.aload_n 3, 1) := dk_45 (dk_at dksX2_same_5 4 rfl rfl)
theorem dX2_same_121 : decode cX2_same 121 = .ok (.getfield 88, 3) := dk_180 0 88 (dk_at dksX2_same_5 5 rfl rfl)
theorem dX2_same_124 : decode cX2_same 124 = .ok (.aload 4, 2) := dk_25 4 (dk_at dksX2_same_5 8 rfl rfl)
theorem dX2_same_126 : decode cX2_same 126 = .ok (.getfield 88, 3) := dk_180 0 88 (dk_at dksX2_same_5 10 rfl rfl)
theorem dX2_same_129 : decode cX2_same 129 = .ok (.invokevirtual 158, 3) := dk_182 0 158 (dk_at dksX2_same_5 13 rfl rfl)
theorem dX2_same_132 : decode cX2_same 132 = .ok (.aload_n 3, 1) := dk_45 (dk_at dksX2_same_5 16 rfl rfl)
theorem dX2_same_133 : decode cX2_same 133 = .ok (.invokevirtual 111, 3) := dk_182 0 111 (dk_at dksX2_same_5 17 rfl rfl)
theorem dX2_same_136 : decode cX2_same 136 = .ok (.astore 5, 2) := dk_58 5 (dk_at dksX2_same_5 20 rfl rfl)
theorem dX2_same_138 : decode cX2_same 138 = .ok (.aload 4, 2) := dk_25 4 (dk_at dksX2_same_5 22 rfl rfl)
theorem dX2_same_140 : decode cX2_same 140 = .ok (.invokevirtual 111, 3) := dk_182 0 111 (dk_at dksX2_same_6 0 rfl rfl)
theorem dX2_same_143 : decode cX2_same 143 = .ok (.astore 6, 2) := dk_58 6 (dk_at dksX2_same_6 3 rfl rfl)
theorem dX2_same_145 : decode cX2_same 145 = .ok (.aload 5, 2) := dk_25 5 (dk_at dksX2_same_6 5 rfl rfl)
theorem dX2_same_147 : decode cX2_same 147 = .ok (.aload 6, 2) := dk_25 6 (dk_at dksX2_same_6 7 rfl rfl)
theorem dX2_same_149 : decode cX2_same 149 = .ok (.if_acmp .eq 10, 3) := dk_165 0 10 (dk_at dksX2_same_6 9 rfl rfl)
theorem dX2_same_152 : decode cX2_same 152 = .ok (.aload 5, 2) := dk_25 5 (dk_at dksX2_same_6 12 rfl rfl)
theorem dX2_same_154 : decode cX2_same 154 = .ok (.aload 6, 2) := dk_25 6 (dk_at dksX2_same_6 14 rfl rfl)
theorem dX2_same_156 : decode cX2_same 156 = .ok (.putfield 148, 3) := dk_181 0 148 (dk_at dksX2_same_6 16 rfl rfl)
theorem dX2_same_159 : decode cX2_same 159 = .ok (.return_, 1) := dk_177 (dk_at dksX2_same_6 19 rfl rfl)
abbrev cX2_binds : ByteArray := prog_45_method_24_code
def yX2_binds : MethodName := ⟨RX2, "binds", "(LRowenTongueModel$Type;LRowenTongueModel$Type;)V"⟩
def dkwX2_binds_1 : List UInt8 := [180, 0, 135, 153, 0, 11, 44, 42, 182, 0, 144, 184, 0, 139, 43, 44, 181, 0, 148, 177]
abbrev dktX2_binds_1 : List UInt8 := dkwX2_binds_1 ++ []
def dkwX2_binds_0 : List UInt8 := [43, 1, 44, 42, 182, 0, 144, 184, 0, 120, 153, 0, 12, 187, 0, 132, 89, 6, 183, 0, 134, 191, 43]
abbrev dktX2_binds_0 : List UInt8 := dkwX2_binds_0 ++ dktX2_binds_1
theorem dksX2_binds_0 : cX2_binds.data.toList.drop 0 = dktX2_binds_0 := by decide +kernel
theorem dksX2_binds_1 : cX2_binds.data.toList.drop 23 = dktX2_binds_1 := dk_seg dksX2_binds_0 23 rfl rfl
theorem dX2_binds_0 : decode cX2_binds 0 = .ok (.aload_n 1, 1) := dk_43 (dk_at dksX2_binds_0 0 rfl rfl)
theorem dX2_binds_1 : decode cX2_binds 1 = .ok (.aconst_null, 1) := dk_1 (dk_at dksX2_binds_0 1 rfl rfl)
theorem dX2_binds_2 : decode cX2_binds 2 = .ok (.aload_n 2, 1) := dk_44 (dk_at dksX2_binds_0 2 rfl rfl)
theorem dX2_binds_3 : decode cX2_binds 3 = .ok (.aload_n 0, 1) := dk_42 (dk_at dksX2_binds_0 3 rfl rfl)
theorem dX2_binds_4 : decode cX2_binds 4 = .ok (.invokevirtual 144, 3) := dk_182 0 144 (dk_at dksX2_binds_0 4 rfl rfl)
theorem dX2_binds_7 : decode cX2_binds 7 = .ok (.invokestatic 120, 3) := dk_184 0 120 (dk_at dksX2_binds_0 7 rfl rfl)
theorem dX2_binds_10 : decode cX2_binds 10 = .ok (.ifCond .eq 12, 3) := dk_153 0 12 (dk_at dksX2_binds_0 10 rfl rfl)
theorem dX2_binds_13 : decode cX2_binds 13 = .ok (.new 132, 3) := dk_187 0 132 (dk_at dksX2_binds_0 13 rfl rfl)
theorem dX2_binds_16 : decode cX2_binds 16 = .ok (.dup, 1) := dk_89 (dk_at dksX2_binds_0 16 rfl rfl)
theorem dX2_binds_17 : decode cX2_binds 17 = .ok (.iconst 3, 1) := dk_6 (dk_at dksX2_binds_0 17 rfl rfl)
theorem dX2_binds_18 : decode cX2_binds 18 = .ok (.invokespecial 134, 3) := dk_183 0 134 (dk_at dksX2_binds_0 18 rfl rfl)
theorem dX2_binds_21 : decode cX2_binds 21 = .ok (.athrow, 1) := dk_191 (dk_at dksX2_binds_0 21 rfl rfl)
theorem dX2_binds_22 : decode cX2_binds 22 = .ok (.aload_n 1, 1) := dk_43 (dk_at dksX2_binds_0 22 rfl rfl)
theorem dX2_binds_23 : decode cX2_binds 23 = .ok (.getfield 135, 3) := dk_180 0 135 (dk_at dksX2_binds_1 0 rfl rfl)
theorem dX2_binds_26 : decode cX2_binds 26 = .ok (.ifCond .eq 11, 3) := dk_153 0 11 (dk_at dksX2_binds_1 3 rfl rfl)
theorem dX2_binds_29 : decode cX2_binds 29 = .ok (.aload_n 2, 1) := dk_44 (dk_at dksX2_binds_1 6 rfl rfl)
theorem dX2_binds_30 : decode cX2_binds 30 = .ok (.aload_n 0, 1) := dk_42 (dk_at dksX2_binds_1 7 rfl rfl)
theorem dX2_binds_31 : decode cX2_binds 31 = .ok (.invokevirtual 144, 3) := dk_182 0 144 (dk_at dksX2_binds_1 8 rfl rfl)
theorem dX2_binds_34 : decode cX2_binds 34 = .ok (.invokestatic 139, 3) := dk_184 0 139 (dk_at dksX2_binds_1 11 rfl rfl)
theorem dX2_binds_37 : decode cX2_binds 37 = .ok (.aload_n 1, 1) := dk_43 (dk_at dksX2_binds_1 14 rfl rfl)
theorem dX2_binds_38 : decode cX2_binds 38 = .ok (.aload_n 2, 1) := dk_44 (dk_at dksX2_binds_1 15 rfl rfl)
theorem dX2_binds_39 : decode cX2_binds 39 = .ok (.putfield 148, 3) := dk_181 0 148 (dk_at dksX2_binds_1 16 rfl rfl)
theorem dX2_binds_42 : decode cX2_binds 42 = .ok (.return_, 1) := dk_177 (dk_at dksX2_binds_1 19 rfl rfl)
abbrev cX2_isWithin : ByteArray := prog_45_method_21_code
def yX2_isWithin : MethodName := ⟨RX2, "isWithin", "(LRowenTongueModel$Type;LRowenTongueModel$Row;LRowenTongueModel$Type;J)Z"⟩
def dkwX2_isWithin_4 : List UInt8 := [43, 25, 5, 180, 0, 88, 33, 184, 0, 124, 153, 0, 7, 4, 167, 0, 4, 3, 172]
abbrev dktX2_isWithin_4 : List UInt8 := dkwX2_isWithin_4 ++ []
def dkwX2_isWithin_3 : List UInt8 := [167, 0, 4, 3, 172, 25, 5, 180, 0, 118, 6, 159, 0, 12, 25, 5, 180, 0, 118, 7, 160, 0, 21, 42]
abbrev dktX2_isWithin_3 : List UInt8 := dkwX2_isWithin_3 ++ dktX2_isWithin_4
def dkwX2_isWithin_2 : List UInt8 := [33, 184, 0, 120, 154, 0, 17, 42, 43, 25, 5, 180, 0, 85, 33, 184, 0, 120, 153, 0, 7, 4]
abbrev dktX2_isWithin_2 : List UInt8 := dkwX2_isWithin_2 ++ dktX2_isWithin_3
def dkwX2_isWithin_1 : List UInt8 := [3, 172, 25, 5, 33, 181, 0, 115, 25, 5, 180, 0, 118, 5, 160, 0, 37, 42, 43, 25, 5, 180, 0, 81]
abbrev dktX2_isWithin_1 : List UInt8 := dkwX2_isWithin_1 ++ dktX2_isWithin_2
def dkwX2_isWithin_0 : List UInt8 := [44, 182, 0, 111, 58, 5, 25, 5, 42, 166, 0, 5, 4, 172, 25, 5, 180, 0, 115, 33, 148, 154, 0, 5]
abbrev dktX2_isWithin_0 : List UInt8 := dkwX2_isWithin_0 ++ dktX2_isWithin_1
theorem dksX2_isWithin_0 : cX2_isWithin.data.toList.drop 0 = dktX2_isWithin_0 := by decide +kernel
theorem dksX2_isWithin_1 : cX2_isWithin.data.toList.drop 24 = dktX2_isWithin_1 := dk_seg dksX2_isWithin_0 24 rfl rfl
theorem dksX2_isWithin_2 : cX2_isWithin.data.toList.drop 48 = dktX2_isWithin_2 := dk_seg dksX2_isWithin_1 24 rfl rfl
theorem dksX2_isWithin_3 : cX2_isWithin.data.toList.drop 70 = dktX2_isWithin_3 := dk_seg dksX2_isWithin_2 22 rfl rfl
theorem dksX2_isWithin_4 : cX2_isWithin.data.toList.drop 94 = dktX2_isWithin_4 := dk_seg dksX2_isWithin_3 24 rfl rfl
theorem dX2_isWithin_0 : decode cX2_isWithin 0 = .ok (.aload_n 2, 1) := dk_44 (dk_at dksX2_isWithin_0 0 rfl rfl)
theorem dX2_isWithin_1 : decode cX2_isWithin 1 = .ok (.invokevirtual 111, 3) := dk_182 0 111 (dk_at dksX2_isWithin_0 1 rfl rfl)
theorem dX2_isWithin_4 : decode cX2_isWithin 4 = .ok (.astore 5, 2) := dk_58 5 (dk_at dksX2_isWithin_0 4 rfl rfl)
theorem dX2_isWithin_6 : decode cX2_isWithin 6 = .ok (.aload 5, 2) := dk_25 5 (dk_at dksX2_isWithin_0 6 rfl rfl)
theorem dX2_isWithin_8 : decode cX2_isWithin 8 = .ok (.aload_n 0, 1) := dk_42 (dk_at dksX2_isWithin_0 8 rfl rfl)
theorem dX2_isWithin_9 : decode cX2_isWithin 9 = .ok (.if_acmp .ne 5, 3) := dk_166 0 5 (dk_at dksX2_isWithin_0 9 rfl rfl)
theorem dX2_isWithin_12 : decode cX2_isWithin 12 = .ok (.iconst 1, 1) := dk_4 (dk_at dksX2_isWithin_0 12 rfl rfl)
theorem dX2_isWithin_13 : decode cX2_isWithin 13 = .ok (.ireturn, 1) := dk_172 (dk_at dksX2_isWithin_0 13 rfl rfl)
theorem dX2_isWithin_14 : decode cX2_isWithin 14 = .ok (.aload 5, 2) := dk_25 5 (dk_at dksX2_isWithin_0 14 rfl rfl)
theorem dX2_isWithin_16 : decode cX2_isWithin 16 = .ok (.getfield 115, 3) := dk_180 0 115 (dk_at dksX2_isWithin_0 16 rfl rfl)
theorem dX2_isWithin_19 : decode cX2_isWithin 19 = .ok (.lload_n 3, 1) := dk_33 (dk_at dksX2_isWithin_0 19 rfl rfl)
theorem dX2_isWithin_20 : decode cX2_isWithin 20 = .ok (.lcmp, 1) := dk_148 (dk_at dksX2_isWithin_0 20 rfl rfl)
theorem dX2_isWithin_21 : decode cX2_isWithin 21 = .ok (.ifCond .ne 5, 3) := dk_154 0 5 (dk_at dksX2_isWithin_0 21 rfl rfl)
theorem dX2_isWithin_24 : decode cX2_isWithin 24 = .ok (.iconst 0, 1) := dk_3 (dk_at dksX2_isWithin_1 0 rfl rfl)
theorem dX2_isWithin_25 : decode cX2_isWithin 25 = .ok (.ireturn, 1) := dk_172 (dk_at dksX2_isWithin_1 1 rfl rfl)
theorem dX2_isWithin_26 : decode cX2_isWithin 26 = .ok (.aload 5, 2) := dk_25 5 (dk_at dksX2_isWithin_1 2 rfl rfl)
theorem dX2_isWithin_28 : decode cX2_isWithin 28 = .ok (.lload_n 3, 1) := dk_33 (dk_at dksX2_isWithin_1 4 rfl rfl)
theorem dX2_isWithin_29 : decode cX2_isWithin 29 = .ok (.putfield 115, 3) := dk_181 0 115 (dk_at dksX2_isWithin_1 5 rfl rfl)
theorem dX2_isWithin_32 : decode cX2_isWithin 32 = .ok (.aload 5, 2) := dk_25 5 (dk_at dksX2_isWithin_1 8 rfl rfl)
theorem dX2_isWithin_34 : decode cX2_isWithin 34 = .ok (.getfield 118, 3) := dk_180 0 118 (dk_at dksX2_isWithin_1 10 rfl rfl)
theorem dX2_isWithin_37 : decode cX2_isWithin 37 = .ok (.iconst 2, 1) := dk_5 (dk_at dksX2_isWithin_1 13 rfl rfl)
theorem dX2_isWithin_38 : decode cX2_isWithin 38 = .ok (.if_icmp .ne 37, 3) := dk_160 0 37 (dk_at dksX2_isWithin_1 14 rfl rfl)
theorem dX2_isWithin_41 : decode cX2_isWithin 41 = .ok (.aload_n 0, 1) := dk_42 (dk_at dksX2_isWithin_1 17 rfl rfl)
theorem dX2_isWithin_42 : decode cX2_isWithin 42 = .ok (.aload_n 1, 1) := dk_43 (dk_at dksX2_isWithin_1 18 rfl rfl)
theorem dX2_isWithin_43 : decode cX2_isWithin 43 = .ok (.aload 5, 2) := dk_25 5 (dk_at dksX2_isWithin_1 19 rfl rfl)
theorem dX2_isWithin_45 : decode cX2_isWithin 45 = .ok (.getfield 81, 3) := dk_180 0 81 (dk_at dksX2_isWithin_1 21 rfl rfl)
theorem dX2_isWithin_48 : decode cX2_isWithin 48 = .ok (.lload_n 3, 1) := dk_33 (dk_at dksX2_isWithin_2 0 rfl rfl)
theorem dX2_isWithin_49 : decode cX2_isWithin 49 = .ok (.invokestatic 120, 3) := dk_184 0 120 (dk_at dksX2_isWithin_2 1 rfl rfl)
theorem dX2_isWithin_52 : decode cX2_isWithin 52 = .ok (.ifCond .ne 17, 3) := dk_154 0 17 (dk_at dksX2_isWithin_2 4 rfl rfl)
theorem dX2_isWithin_55 : decode cX2_isWithin 55 = .ok (.aload_n 0, 1) := dk_42 (dk_at dksX2_isWithin_2 7 rfl rfl)
theorem dX2_isWithin_56 : decode cX2_isWithin 56 = .ok (.aload_n 1, 1) := dk_43 (dk_at dksX2_isWithin_2 8 rfl rfl)
theorem dX2_isWithin_57 : decode cX2_isWithin 57 = .ok (.aload 5, 2) := dk_25 5 (dk_at dksX2_isWithin_2 9 rfl rfl)
theorem dX2_isWithin_59 : decode cX2_isWithin 59 = .ok (.getfield 85, 3) := dk_180 0 85 (dk_at dksX2_isWithin_2 11 rfl rfl)
theorem dX2_isWithin_62 : decode cX2_isWithin 62 = .ok (.lload_n 3, 1) := dk_33 (dk_at dksX2_isWithin_2 14 rfl rfl)
theorem dX2_isWithin_63 : decode cX2_isWithin 63 = .ok (.invokestatic 120, 3) := dk_184 0 120 (dk_at dksX2_isWithin_2 15 rfl rfl)
theorem dX2_isWithin_66 : decode cX2_isWithin 66 = .ok (.ifCond .eq 7, 3) := dk_153 0 7 (dk_at dksX2_isWithin_2 18 rfl rfl)
theorem dX2_isWithin_69 : decode cX2_isWithin 69 = .ok (.iconst 1, 1) := dk_4 (dk_at dksX2_isWithin_2 21 rfl rfl)
theorem dX2_isWithin_70 : decode cX2_isWithin 70 = .ok (.goto 4, 3) := dk_167 0 4 (dk_at dksX2_isWithin_3 0 rfl rfl)
theorem dX2_isWithin_73 : decode cX2_isWithin 73 = .ok (.iconst 0, 1) := dk_3 (dk_at dksX2_isWithin_3 3 rfl rfl)
theorem dX2_isWithin_74 : decode cX2_isWithin 74 = .ok (.ireturn, 1) := dk_172 (dk_at dksX2_isWithin_3 4 rfl rfl)
theorem dX2_isWithin_75 : decode cX2_isWithin 75 = .ok (.aload 5, 2) := dk_25 5 (dk_at dksX2_isWithin_3 5 rfl rfl)
theorem dX2_isWithin_77 : decode cX2_isWithin 77 = .ok (.getfield 118, 3) := dk_180 0 118 (dk_at dksX2_isWithin_3 7 rfl rfl)
theorem dX2_isWithin_80 : decode cX2_isWithin 80 = .ok (.iconst 3, 1) := dk_6 (dk_at dksX2_isWithin_3 10 rfl rfl)
theorem dX2_isWithin_81 : decode cX2_isWithin 81 = .ok (.if_icmp .eq 12, 3) := dk_159 0 12 (dk_at dksX2_isWithin_3 11 rfl rfl)
theorem dX2_isWithin_84 : decode cX2_isWithin 84 = .ok (.aload 5, 2) := dk_25 5 (dk_at dksX2_isWithin_3 14 rfl rfl)
theorem dX2_isWithin_86 : decode cX2_isWithin 86 = .ok (.getfield 118, 3) := dk_180 0 118 (dk_at dksX2_isWithin_3 16 rfl rfl)
theorem dX2_isWithin_89 : decode cX2_isWithin 89 = .ok (.iconst 4, 1) := dk_7 (dk_at dksX2_isWithin_3 19 rfl rfl)
theorem dX2_isWithin_90 : decode cX2_isWithin 90 = .ok (.if_icmp .ne 21, 3) := dk_160 0 21 (dk_at dksX2_isWithin_3 20 rfl rfl)
theorem dX2_isWithin_93 : decode cX2_isWithin 93 = .ok (.aload_n 0, 1) := dk_42 (dk_at dksX2_isWithin_3 23 rfl rfl)
theorem dX2_isWithin_94 : decode cX2_isWithin 94 = .ok (.aload_n 1, 1) := dk_43 (dk_at dksX2_isWithin_4 0 rfl rfl)
theorem dX2_isWithin_95 : decode cX2_isWithin 95 = .ok (.aload 5, 2) := dk_25 5 (dk_at dksX2_isWithin_4 1 rfl rfl)
theorem dX2_isWithin_97 : decode cX2_isWithin 97 = .ok (.getfield 88, 3) := dk_180 0 88 (dk_at dksX2_isWithin_4 3 rfl rfl)
theorem dX2_isWithin_100 : decode cX2_isWithin 100 = .ok (.lload_n 3, 1) := dk_33 (dk_at dksX2_isWithin_4 6 rfl rfl)
theorem dX2_isWithin_101 : decode cX2_isWithin 101 = .ok (.invokestatic 124, 3) := dk_184 0 124 (dk_at dksX2_isWithin_4 7 rfl rfl)
theorem dX2_isWithin_104 : decode cX2_isWithin 104 = .ok (.ifCond .eq 7, 3) := dk_153 0 7 (dk_at dksX2_isWithin_4 10 rfl rfl)
theorem dX2_isWithin_107 : decode cX2_isWithin 107 = .ok (.iconst 1, 1) := dk_4 (dk_at dksX2_isWithin_4 13 rfl rfl)
theorem dX2_isWithin_108 : decode cX2_isWithin 108 = .ok (.goto 4, 3) := dk_167 0 4 (dk_at dksX2_isWithin_4 14 rfl rfl)
theorem dX2_isWithin_111 : decode cX2_isWithin 111 = .ok (.iconst 0, 1) := dk_3 (dk_at dksX2_isWithin_4 17 rfl rfl)
theorem dX2_isWithin_112 : decode cX2_isWithin 112 = .ok (.ireturn, 1) := dk_172 (dk_at dksX2_isWithin_4 18 rfl rfl)
abbrev cX2_isWithinRow : ByteArray := prog_45_method_22_code
def yX2_isWithinRow : MethodName := ⟨RX2, "isWithinRow", "(LRowenTongueModel$Type;LRowenTongueModel$Row;LRowenTongueModel$Row;J)Z"⟩
def dkwX2_isWithinRow_2 : List UInt8 := [167, 255, 219, 21, 6, 154, 0, 9, 25, 5, 43, 166, 0, 7, 4, 167, 0, 4, 3, 172]
abbrev dktX2_isWithinRow_2 : List UInt8 := dkwX2_isWithinRow_2 ++ []
def dkwX2_isWithinRow_1 : List UInt8 := [43, 25, 5, 180, 0, 101, 33, 184, 0, 120, 54, 6, 25, 5, 180, 0, 104, 182, 0, 128, 58, 5]
abbrev dktX2_isWithinRow_1 : List UInt8 := dkwX2_isWithinRow_1 ++ dktX2_isWithinRow_2
def dkwX2_isWithinRow_0 : List UInt8 := [44, 182, 0, 128, 58, 5, 3, 54, 6, 25, 5, 180, 0, 131, 5, 160, 0, 34, 21, 6, 154, 0, 29, 42]
abbrev dktX2_isWithinRow_0 : List UInt8 := dkwX2_isWithinRow_0 ++ dktX2_isWithinRow_1
theorem dksX2_isWithinRow_0 : cX2_isWithinRow.data.toList.drop 0 = dktX2_isWithinRow_0 := by decide +kernel
theorem dksX2_isWithinRow_1 : cX2_isWithinRow.data.toList.drop 24 = dktX2_isWithinRow_1 := dk_seg dksX2_isWithinRow_0 24 rfl rfl
theorem dksX2_isWithinRow_2 : cX2_isWithinRow.data.toList.drop 46 = dktX2_isWithinRow_2 := dk_seg dksX2_isWithinRow_1 22 rfl rfl
theorem dX2_isWithinRow_0 : decode cX2_isWithinRow 0 = .ok (.aload_n 2, 1) := dk_44 (dk_at dksX2_isWithinRow_0 0 rfl rfl)
theorem dX2_isWithinRow_1 : decode cX2_isWithinRow 1 = .ok (.invokevirtual 128, 3) := dk_182 0 128 (dk_at dksX2_isWithinRow_0 1 rfl rfl)
theorem dX2_isWithinRow_4 : decode cX2_isWithinRow 4 = .ok (.astore 5, 2) := dk_58 5 (dk_at dksX2_isWithinRow_0 4 rfl rfl)
theorem dX2_isWithinRow_6 : decode cX2_isWithinRow 6 = .ok (.iconst 0, 1) := dk_3 (dk_at dksX2_isWithinRow_0 6 rfl rfl)
theorem dX2_isWithinRow_7 : decode cX2_isWithinRow 7 = .ok (.istore 6, 2) := dk_54 6 (dk_at dksX2_isWithinRow_0 7 rfl rfl)
theorem dX2_isWithinRow_9 : decode cX2_isWithinRow 9 = .ok (.aload 5, 2) := dk_25 5 (dk_at dksX2_isWithinRow_0 9 rfl rfl)
theorem dX2_isWithinRow_11 : decode cX2_isWithinRow 11 = .ok (.getfield 131, 3) := dk_180 0 131 (dk_at dksX2_isWithinRow_0 11 rfl rfl)
theorem dX2_isWithinRow_14 : decode cX2_isWithinRow 14 = .ok (.iconst 2, 1) := dk_5 (dk_at dksX2_isWithinRow_0 14 rfl rfl)
theorem dX2_isWithinRow_15 : decode cX2_isWithinRow 15 = .ok (.if_icmp .ne 34, 3) := dk_160 0 34 (dk_at dksX2_isWithinRow_0 15 rfl rfl)
theorem dX2_isWithinRow_18 : decode cX2_isWithinRow 18 = .ok (.iload 6, 2) := dk_21 6 (dk_at dksX2_isWithinRow_0 18 rfl rfl)
theorem dX2_isWithinRow_20 : decode cX2_isWithinRow 20 = .ok (.ifCond .ne 29, 3) := dk_154 0 29 (dk_at dksX2_isWithinRow_0 20 rfl rfl)
theorem dX2_isWithinRow_23 : decode cX2_isWithinRow 23 = .ok (.aload_n 0, 1) := dk_42 (dk_at dksX2_isWithinRow_0 23 rfl rfl)
theorem dX2_isWithinRow_24 : decode cX2_isWithinRow 24 = .ok (.aload_n 1, 1) := dk_43 (dk_at dksX2_isWithinRow_1 0 rfl rfl)
theorem dX2_isWithinRow_25 : decode cX2_isWithinRow 25 = .ok (.aload 5, 2) := dk_25 5 (dk_at dksX2_isWithinRow_1 1 rfl rfl)
theorem dX2_isWithinRow_27 : decode cX2_isWithinRow 27 = .ok (.getfield 101, 3) := dk_180 0 101 (dk_at dksX2_isWithinRow_1 3 rfl rfl)
theorem dX2_isWithinRow_30 : decode cX2_isWithinRow 30 = .ok (.lload_n 3, 1) := dk_33 (dk_at dksX2_isWithinRow_1 6 rfl rfl)
theorem dX2_isWithinRow_31 : decode cX2_isWithinRow 31 = .ok (.invokestatic 120, 3) := dk_184 0 120 (dk_at dksX2_isWithinRow_1 7 rfl rfl)
theorem dX2_isWithinRow_34 : decode cX2_isWithinRow 34 = .ok (.istore 6, 2) := dk_54 6 (dk_at dksX2_isWithinRow_1 10 rfl rfl)
theorem dX2_isWithinRow_36 : decode cX2_isWithinRow 36 = .ok (.aload 5, 2) := dk_25 5 (dk_at dksX2_isWithinRow_1 12 rfl rfl)
theorem dX2_isWithinRow_38 : decode cX2_isWithinRow 38 = .ok (.getfield 104, 3) := dk_180 0 104 (dk_at dksX2_isWithinRow_1 14 rfl rfl)
theorem dX2_isWithinRow_41 : decode cX2_isWithinRow 41 = .ok (.invokevirtual 128, 3) := dk_182 0 128 (dk_at dksX2_isWithinRow_1 17 rfl rfl)
theorem dX2_isWithinRow_44 : decode cX2_isWithinRow 44 = .ok (.astore 5, 2) := dk_58 5 (dk_at dksX2_isWithinRow_1 20 rfl rfl)
theorem dX2_isWithinRow_46 : decode cX2_isWithinRow 46 = .ok (.goto (-37), 3) := dk_167 255 219 (dk_at dksX2_isWithinRow_2 0 rfl rfl)
theorem dX2_isWithinRow_49 : decode cX2_isWithinRow 49 = .ok (.iload 6, 2) := dk_21 6 (dk_at dksX2_isWithinRow_2 3 rfl rfl)
theorem dX2_isWithinRow_51 : decode cX2_isWithinRow 51 = .ok (.ifCond .ne 9, 3) := dk_154 0 9 (dk_at dksX2_isWithinRow_2 5 rfl rfl)
theorem dX2_isWithinRow_54 : decode cX2_isWithinRow 54 = .ok (.aload 5, 2) := dk_25 5 (dk_at dksX2_isWithinRow_2 8 rfl rfl)
theorem dX2_isWithinRow_56 : decode cX2_isWithinRow 56 = .ok (.aload_n 1, 1) := dk_43 (dk_at dksX2_isWithinRow_2 10 rfl rfl)
theorem dX2_isWithinRow_57 : decode cX2_isWithinRow 57 = .ok (.if_acmp .ne 7, 3) := dk_166 0 7 (dk_at dksX2_isWithinRow_2 11 rfl rfl)
theorem dX2_isWithinRow_60 : decode cX2_isWithinRow 60 = .ok (.iconst 1, 1) := dk_4 (dk_at dksX2_isWithinRow_2 14 rfl rfl)
theorem dX2_isWithinRow_61 : decode cX2_isWithinRow 61 = .ok (.goto 4, 3) := dk_167 0 4 (dk_at dksX2_isWithinRow_2 15 rfl rfl)
theorem dX2_isWithinRow_64 : decode cX2_isWithinRow 64 = .ok (.iconst 0, 1) := dk_3 (dk_at dksX2_isWithinRow_2 18 rfl rfl)
theorem dX2_isWithinRow_65 : decode cX2_isWithinRow 65 = .ok (.ireturn, 1) := dk_172 (dk_at dksX2_isWithinRow_2 19 rfl rfl)
abbrev cX2_compares : ByteArray := prog_45_method_23_code
def yX2_compares : MethodName := ⟨RX2, "compares", "(LRowenTongueModel$Type;J)V"⟩
def dkwX2_compares_5 : List UInt8 := [167, 0, 4, 3, 181, 0, 143, 177]
abbrev dktX2_compares_5 : List UInt8 := dkwX2_compares_5 ++ []
def dkwX2_compares_4 : List UInt8 := [58, 4, 167, 255, 228, 25, 4, 25, 4, 180, 0, 143, 154, 0, 11, 25, 4, 180, 0, 131, 154, 0, 7, 4]
abbrev dktX2_compares_4 : List UInt8 := dkwX2_compares_4 ++ dktX2_compares_5
def dkwX2_compares_3 : List UInt8 := [180, 0, 131, 5, 160, 0, 25, 25, 4, 180, 0, 101, 31, 184, 0, 139, 25, 4, 180, 0, 104, 182, 0, 128]
abbrev dktX2_compares_3 : List UInt8 := dkwX2_compares_3 ++ dktX2_compares_4
def dkwX2_compares_2 : List UInt8 := [180, 0, 115, 31, 148, 153, 0, 74, 45, 31, 181, 0, 115, 45, 180, 0, 88, 182, 0, 128, 58, 4, 25, 4]
abbrev dktX2_compares_2 : List UInt8 := dkwX2_compares_2 ++ dktX2_compares_3
def dkwX2_compares_1 : List UInt8 := [180, 0, 118, 154, 0, 11, 45, 4, 181, 0, 135, 167, 0, 91, 45, 180, 0, 118, 4, 159, 0, 83, 45]
abbrev dktX2_compares_1 : List UInt8 := dkwX2_compares_1 ++ dktX2_compares_2
def dkwX2_compares_0 : List UInt8 := [42, 182, 0, 111, 78, 45, 180, 0, 118, 5, 160, 0, 12, 187, 0, 132, 89, 8, 183, 0, 134, 191, 45]
abbrev dktX2_compares_0 : List UInt8 := dkwX2_compares_0 ++ dktX2_compares_1
theorem dksX2_compares_0 : cX2_compares.data.toList.drop 0 = dktX2_compares_0 := by decide +kernel
theorem dksX2_compares_1 : cX2_compares.data.toList.drop 23 = dktX2_compares_1 := dk_seg dksX2_compares_0 23 rfl rfl
theorem dksX2_compares_2 : cX2_compares.data.toList.drop 46 = dktX2_compares_2 := dk_seg dksX2_compares_1 23 rfl rfl
theorem dksX2_compares_3 : cX2_compares.data.toList.drop 70 = dktX2_compares_3 := dk_seg dksX2_compares_2 24 rfl rfl
theorem dksX2_compares_4 : cX2_compares.data.toList.drop 94 = dktX2_compares_4 := dk_seg dksX2_compares_3 24 rfl rfl
theorem dksX2_compares_5 : cX2_compares.data.toList.drop 118 = dktX2_compares_5 := dk_seg dksX2_compares_4 24 rfl rfl
theorem dX2_compares_0 : decode cX2_compares 0 = .ok (.aload_n 0, 1) := dk_42 (dk_at dksX2_compares_0 0 rfl rfl)
theorem dX2_compares_1 : decode cX2_compares 1 = .ok (.invokevirtual 111, 3) := dk_182 0 111 (dk_at dksX2_compares_0 1 rfl rfl)
theorem dX2_compares_4 : decode cX2_compares 4 = .ok (.astore_n 3, 1) := dk_78 (dk_at dksX2_compares_0 4 rfl rfl)
theorem dX2_compares_5 : decode cX2_compares 5 = .ok (.aload_n 3, 1) := dk_45 (dk_at dksX2_compares_0 5 rfl rfl)
theorem dX2_compares_6 : decode cX2_compares 6 = .ok (.getfield 118, 3) := dk_180 0 118 (dk_at dksX2_compares_0 6 rfl rfl)
theorem dX2_compares_9 : decode cX2_compares 9 = .ok (.iconst 2, 1) := dk_5 (dk_at dksX2_compares_0 9 rfl rfl)
theorem dX2_compares_10 : decode cX2_compares 10 = .ok (.if_icmp .ne 12, 3) := dk_160 0 12 (dk_at dksX2_compares_0 10 rfl rfl)
theorem dX2_compares_13 : decode cX2_compares 13 = .ok (.new 132, 3) := dk_187 0 132 (dk_at dksX2_compares_0 13 rfl rfl)
theorem dX2_compares_16 : decode cX2_compares 16 = .ok (.dup, 1) := dk_89 (dk_at dksX2_compares_0 16 rfl rfl)
theorem dX2_compares_17 : decode cX2_compares 17 = .ok (.iconst 5, 1) := dk_8 (dk_at dksX2_compares_0 17 rfl rfl)
theorem dX2_compares_18 : decode cX2_compares 18 = .ok (.invokespecial 134, 3) := dk_183 0 134 (dk_at dksX2_compares_0 18 rfl rfl)
theorem dX2_compares_21 : decode cX2_compares 21 = .ok (.athrow, 1) := dk_191 (dk_at dksX2_compares_0 21 rfl rfl)
theorem dX2_compares_22 : decode cX2_compares 22 = .ok (.aload_n 3, 1) := dk_45 (dk_at dksX2_compares_0 22 rfl rfl)
theorem dX2_compares_23 : decode cX2_compares 23 = .ok (.getfield 118, 3) := dk_180 0 118 (dk_at dksX2_compares_1 0 rfl rfl)
theorem dX2_compares_26 : decode cX2_compares 26 = .ok (.ifCond .ne 11, 3) := dk_154 0 11 (dk_at dksX2_compares_1 3 rfl rfl)
theorem dX2_compares_29 : decode cX2_compares 29 = .ok (.aload_n 3, 1) := dk_45 (dk_at dksX2_compares_1 6 rfl rfl)
theorem dX2_compares_30 : decode cX2_compares 30 = .ok (.iconst 1, 1) := dk_4 (dk_at dksX2_compares_1 7 rfl rfl)
theorem dX2_compares_31 : decode cX2_compares 31 = .ok (.putfield 135, 3) := dk_181 0 135 (dk_at dksX2_compares_1 8 rfl rfl)
theorem dX2_compares_34 : decode cX2_compares 34 = .ok (.goto 91, 3) := dk_167 0 91 (dk_at dksX2_compares_1 11 rfl rfl)
theorem dX2_compares_37 : decode cX2_compares 37 = .ok (.aload_n 3, 1) := dk_45 (dk_at dksX2_compares_1 14 rfl rfl)
theorem dX2_compares_38 : decode cX2_compares 38 = .ok (.getfield 118, 3) := dk_180 0 118 (dk_at dksX2_compares_1 15 rfl rfl)
theorem dX2_compares_41 : decode cX2_compares 41 = .ok (.iconst 1, 1) := dk_4 (dk_at dksX2_compares_1 18 rfl rfl)
theorem dX2_compares_42 : decode cX2_compares 42 = .ok (.if_icmp .eq 83, 3) := dk_159 0 83 (dk_at dksX2_compares_1 19 rfl rfl)
theorem dX2_compares_45 : decode cX2_compares 45 = .ok (.aload_n 3, 1) := dk_45 (dk_at dksX2_compares_1 22 rfl rfl)
theorem dX2_compares_46 : decode cX2_compares 46 = .ok (.getfield 115, 3) := dk_180 0 115 (dk_at dksX2_compares_2 0 rfl rfl)
theorem dX2_compares_49 : decode cX2_compares 49 = .ok (.lload_n 1, 1) := dk_31 (dk_at dksX2_compares_2 3 rfl rfl)
theorem dX2_compares_50 : decode cX2_compares 50 = .ok (.lcmp, 1) := dk_148 (dk_at dksX2_compares_2 4 rfl rfl)
theorem dX2_compares_51 : decode cX2_compares 51 = .ok (.ifCond .eq 74, 3) := dk_153 0 74 (dk_at dksX2_compares_2 5 rfl rfl)
theorem dX2_compares_54 : decode cX2_compares 54 = .ok (.aload_n 3, 1) := dk_45 (dk_at dksX2_compares_2 8 rfl rfl)
theorem dX2_compares_55 : decode cX2_compares 55 = .ok (.lload_n 1, 1) := dk_31 (dk_at dksX2_compares_2 9 rfl rfl)
theorem dX2_compares_56 : decode cX2_compares 56 = .ok (.putfield 115, 3) := dk_181 0 115 (dk_at dksX2_compares_2 10 rfl rfl)
theorem dX2_compares_59 : decode cX2_compares 59 = .ok (.aload_n 3, 1) := dk_45 (dk_at dksX2_compares_2 13 rfl rfl)
theorem dX2_compares_60 : decode cX2_compares 60 = .ok (.getfield 88, 3) := dk_180 0 88 (dk_at dksX2_compares_2 14 rfl rfl)
theorem dX2_compares_63 : decode cX2_compares 63 = .ok (.invokevirtual 128, 3) := dk_182 0 128 (dk_at dksX2_compares_2 17 rfl rfl)
theorem dX2_compares_66 : decode cX2_compares 66 = .ok (.astore 4, 2) := dk_58 4 (dk_at dksX2_compares_2 20 rfl rfl)
theorem dX2_compares_68 : decode cX2_compares 68 = .ok (.aload 4, 2) := dk_25 4 (dk_at dksX2_compares_2 22 rfl rfl)
theorem dX2_compares_70 : decode cX2_compares 70 = .ok (.getfield 131, 3) := dk_180 0 131 (dk_at dksX2_compares_3 0 rfl rfl)
theorem dX2_compares_73 : decode cX2_compares 73 = .ok (.iconst 2, 1) := dk_5 (dk_at dksX2_compares_3 3 rfl rfl)
theorem dX2_compares_74 : decode cX2_compares 74 = .ok (.if_icmp .ne 25, 3) := dk_160 0 25 (dk_at dksX2_compares_3 4 rfl rfl)
theorem dX2_compares_77 : decode cX2_compares 77 = .ok (.aload 4, 2) := dk_25 4 (dk_at dksX2_compares_3 7 rfl rfl)
theorem dX2_compares_79 : decode cX2_compares 79 = .ok (.getfield 101, 3) := dk_180 0 101 (dk_at dksX2_compares_3 9 rfl rfl)
theorem dX2_compares_82 : decode cX2_compares 82 = .ok (.lload_n 1, 1) := dk_31 (dk_at dksX2_compares_3 12 rfl rfl)
theorem dX2_compares_83 : decode cX2_compares 83 = .ok (.invokestatic 139, 3) := dk_184 0 139 (dk_at dksX2_compares_3 13 rfl rfl)
theorem dX2_compares_86 : decode cX2_compares 86 = .ok (.aload 4, 2) := dk_25 4 (dk_at dksX2_compares_3 16 rfl rfl)
theorem dX2_compares_88 : decode cX2_compares 88 = .ok (.getfield 104, 3) := dk_180 0 104 (dk_at dksX2_compares_3 18 rfl rfl)
theorem dX2_compares_91 : decode cX2_compares 91 = .ok (.invokevirtual 128, 3) := dk_182 0 128 (dk_at dksX2_compares_3 21 rfl rfl)
theorem dX2_compares_94 : decode cX2_compares 94 = .ok (.astore 4, 2) := dk_58 4 (dk_at dksX2_compares_4 0 rfl rfl)
theorem dX2_compares_96 : decode cX2_compares 96 = .ok (.goto (-28), 3) := dk_167 255 228 (dk_at dksX2_compares_4 2 rfl rfl)
theorem dX2_compares_99 : decode cX2_compares 99 = .ok (.aload 4, 2) := dk_25 4 (dk_at dksX2_compares_4 5 rfl rfl)
theorem dX2_compares_101 : decode cX2_compares 101 = .ok (.aload 4, 2) := dk_25 4 (dk_at dksX2_compares_4 7 rfl rfl)
theorem dX2_compares_103 : decode cX2_compares 103 = .ok (.getfield 143, 3) := dk_180 0 143 (dk_at dksX2_compares_4 9 rfl rfl)
theorem dX2_compares_106 : decode cX2_compares 106 = .ok (.ifCond .ne 11, 3) := dk_154 0 11 (dk_at dksX2_compares_4 12 rfl rfl)
theorem dX2_compares_109 : decode cX2_compares 109 = .ok (.aload 4, 2) := dk_25 4 (dk_at dksX2_compares_4 15 rfl rfl)
theorem dX2_compares_111 : decode cX2_compares 111 = .ok (.getfield 131, 3) := dk_180 0 131 (dk_at dksX2_compares_4 17 rfl rfl)
theorem dX2_compares_114 : decode cX2_compares 114 = .ok (.ifCond .ne 7, 3) := dk_154 0 7 (dk_at dksX2_compares_4 20 rfl rfl)
theorem dX2_compares_117 : decode cX2_compares 117 = .ok (.iconst 1, 1) := dk_4 (dk_at dksX2_compares_4 23 rfl rfl)
theorem dX2_compares_118 : decode cX2_compares 118 = .ok (.goto 4, 3) := dk_167 0 4 (dk_at dksX2_compares_5 0 rfl rfl)
theorem dX2_compares_121 : decode cX2_compares 121 = .ok (.iconst 0, 1) := dk_3 (dk_at dksX2_compares_5 3 rfl rfl)
theorem dX2_compares_122 : decode cX2_compares 122 = .ok (.putfield 143, 3) := dk_181 0 143 (dk_at dksX2_compares_5 4 rfl rfl)
theorem dX2_compares_125 : decode cX2_compares 125 = .ok (.return_, 1) := dk_177 (dk_at dksX2_compares_5 7 rfl rfl)
abbrev cX2_sameRows : ByteArray := prog_45_method_31_code
def yX2_sameRows : MethodName := ⟨RX2, "sameRows", "(LRowenTongueModel$Row;LRowenTongueModel$Row;)V"⟩
def dkwX2_sameRows_15 : List UInt8 := [42, 45, 21, 13, 50, 25, 4, 21, 13, 50, 182, 0, 155, 132, 13, 1, 167, 255, 218, 177]
abbrev dktX2_sameRows_15 : List UInt8 := dkwX2_sameRows_15 ++ []
def dkwX2_sameRows_14 : List UInt8 := [54, 13, 21, 13, 16, 10, 162, 0, 37, 45, 21, 13, 50, 198, 0, 24, 25, 4, 21, 13, 50, 198, 0, 16]
abbrev dktX2_sameRows_14 : List UInt8 := dkwX2_sameRows_14 ++ dktX2_sameRows_15
def dkwX2_sameRows_13 : List UInt8 := [153, 0, 15, 25, 5, 180, 0, 143, 153, 0, 7, 4, 167, 0, 4, 3, 25, 4, 21, 10, 182, 0, 187, 3]
abbrev dktX2_sameRows_13 : List UInt8 := dkwX2_sameRows_13 ++ dktX2_sameRows_14
def dkwX2_sameRows_12 : List UInt8 := [25, 6, 180, 0, 143, 153, 0, 7, 4, 167, 0, 4, 3, 45, 21, 9, 182, 0, 187, 42, 21, 11]
abbrev dktX2_sameRows_12 : List UInt8 := dkwX2_sameRows_12 ++ dktX2_sameRows_13
def dkwX2_sameRows_11 : List UInt8 := [21, 11, 153, 0, 15, 42, 25, 5, 25, 4, 21, 10, 25, 13, 182, 0, 183, 42, 21, 12, 153, 0, 15]
abbrev dktX2_sameRows_11 : List UInt8 := dkwX2_sameRows_11 ++ dktX2_sameRows_12
def dkwX2_sameRows_10 : List UInt8 := [167, 0, 4, 3, 181, 0, 143, 21, 12, 153, 0, 14, 42, 25, 6, 45, 21, 9, 25, 13, 182, 0, 183]
abbrev dktX2_sameRows_10 : List UInt8 := dkwX2_sameRows_10 ++ dktX2_sameRows_11
def dkwX2_sameRows_9 : List UInt8 := [184, 0, 179, 58, 13, 25, 13, 25, 5, 180, 0, 143, 154, 0, 11, 25, 6, 180, 0, 143, 153, 0, 7, 4]
abbrev dktX2_sameRows_9 : List UInt8 := dkwX2_sameRows_9 ++ dktX2_sameRows_10
def dkwX2_sameRows_8 : List UInt8 := [58, 13, 21, 11, 153, 0, 50, 21, 12, 153, 0, 45, 25, 5, 180, 0, 95, 25, 6, 180, 0, 95, 128]
abbrev dktX2_sameRows_8 : List UInt8 := dkwX2_sameRows_8 ++ dktX2_sameRows_9
def dkwX2_sameRows_7 : List UInt8 := [187, 0, 132, 89, 6, 183, 0, 134, 191, 25, 5, 25, 6, 165, 0, 149, 187, 0, 92, 89, 4, 183, 0, 94]
abbrev dktX2_sameRows_7 : List UInt8 := dkwX2_sameRows_7 ++ dktX2_sameRows_8
def dkwX2_sameRows_6 : List UInt8 := [187, 0, 132, 89, 7, 183, 0, 134, 191, 25, 5, 25, 6, 166, 0, 20, 21, 9, 21, 10, 128, 153, 0, 12]
abbrev dktX2_sameRows_6 : List UInt8 := dkwX2_sameRows_6 ++ dktX2_sameRows_7
def dkwX2_sameRows_5 : List UInt8 := [191, 21, 9, 25, 6, 180, 0, 95, 126, 154, 0, 14, 21, 10, 25, 5, 180, 0, 95, 126, 153, 0, 12]
abbrev dktX2_sameRows_5 : List UInt8 := dkwX2_sameRows_5 ++ dktX2_sameRows_6
def dkwX2_sameRows_4 : List UInt8 := [21, 12, 153, 0, 13, 21, 10, 153, 0, 18, 21, 11, 154, 0, 13, 187, 0, 132, 89, 16, 6, 183, 0, 134]
abbrev dktX2_sameRows_4 : List UInt8 := dkwX2_sameRows_4 ++ dktX2_sameRows_5
def dkwX2_sameRows_3 : List UInt8 := [3, 54, 11, 25, 6, 180, 0, 131, 154, 0, 7, 4, 167, 0, 4, 3, 54, 12, 21, 9, 153, 0, 8]
abbrev dktX2_sameRows_3 : List UInt8 := dkwX2_sameRows_3 ++ dktX2_sameRows_4
def dkwX2_sameRows_2 : List UInt8 := [126, 54, 9, 21, 8, 21, 7, 2, 130, 126, 54, 10, 25, 5, 180, 0, 131, 154, 0, 7, 4, 167, 0, 4]
abbrev dktX2_sameRows_2 : List UInt8 := dkwX2_sameRows_2 ++ dktX2_sameRows_3
def dkwX2_sameRows_1 : List UInt8 := [184, 0, 171, 58, 6, 45, 184, 0, 175, 54, 7, 25, 4, 184, 0, 175, 54, 8, 21, 7, 21, 8, 2, 130]
abbrev dktX2_sameRows_1 : List UInt8 := dkwX2_sameRows_1 ++ dktX2_sameRows_2
def dkwX2_sameRows_0 : List UInt8 := [16, 10, 189, 0, 76, 78, 16, 10, 189, 0, 76, 58, 4, 43, 45, 184, 0, 171, 58, 5, 44, 25, 4]
abbrev dktX2_sameRows_0 : List UInt8 := dkwX2_sameRows_0 ++ dktX2_sameRows_1
theorem dksX2_sameRows_0 : cX2_sameRows.data.toList.drop 0 = dktX2_sameRows_0 := by decide +kernel
theorem dksX2_sameRows_1 : cX2_sameRows.data.toList.drop 23 = dktX2_sameRows_1 := dk_seg dksX2_sameRows_0 23 rfl rfl
theorem dksX2_sameRows_2 : cX2_sameRows.data.toList.drop 47 = dktX2_sameRows_2 := dk_seg dksX2_sameRows_1 24 rfl rfl
theorem dksX2_sameRows_3 : cX2_sameRows.data.toList.drop 71 = dktX2_sameRows_3 := dk_seg dksX2_sameRows_2 24 rfl rfl
theorem dksX2_sameRows_4 : cX2_sameRows.data.toList.drop 94 = dktX2_sameRows_4 := dk_seg dksX2_sameRows_3 23 rfl rfl
theorem dksX2_sameRows_5 : cX2_sameRows.data.toList.drop 118 = dktX2_sameRows_5 := dk_seg dksX2_sameRows_4 24 rfl rfl
theorem dksX2_sameRows_6 : cX2_sameRows.data.toList.drop 141 = dktX2_sameRows_6 := dk_seg dksX2_sameRows_5 23 rfl rfl
theorem dksX2_sameRows_7 : cX2_sameRows.data.toList.drop 165 = dktX2_sameRows_7 := dk_seg dksX2_sameRows_6 24 rfl rfl
theorem dksX2_sameRows_8 : cX2_sameRows.data.toList.drop 189 = dktX2_sameRows_8 := dk_seg dksX2_sameRows_7 24 rfl rfl
theorem dksX2_sameRows_9 : cX2_sameRows.data.toList.drop 212 = dktX2_sameRows_9 := dk_seg dksX2_sameRows_8 23 rfl rfl
theorem dksX2_sameRows_10 : cX2_sameRows.data.toList.drop 236 = dktX2_sameRows_10 := dk_seg dksX2_sameRows_9 24 rfl rfl
theorem dksX2_sameRows_11 : cX2_sameRows.data.toList.drop 259 = dktX2_sameRows_11 := dk_seg dksX2_sameRows_10 23 rfl rfl
theorem dksX2_sameRows_12 : cX2_sameRows.data.toList.drop 282 = dktX2_sameRows_12 := dk_seg dksX2_sameRows_11 23 rfl rfl
theorem dksX2_sameRows_13 : cX2_sameRows.data.toList.drop 304 = dktX2_sameRows_13 := dk_seg dksX2_sameRows_12 22 rfl rfl
theorem dksX2_sameRows_14 : cX2_sameRows.data.toList.drop 328 = dktX2_sameRows_14 := dk_seg dksX2_sameRows_13 24 rfl rfl
theorem dksX2_sameRows_15 : cX2_sameRows.data.toList.drop 352 = dktX2_sameRows_15 := dk_seg dksX2_sameRows_14 24 rfl rfl
theorem dX2_sameRows_0 : decode cX2_sameRows 0 = .ok (.bipush 10, 2) := dk_16 10 (dk_at dksX2_sameRows_0 0 rfl rfl)
theorem dX2_sameRows_2 : decode cX2_sameRows 2 = .ok (.anewarray 76, 3) := dk_189 0 76 (dk_at dksX2_sameRows_0 2 rfl rfl)
theorem dX2_sameRows_5 : decode cX2_sameRows 5 = .ok (.astore_n 3, 1) := dk_78 (dk_at dksX2_sameRows_0 5 rfl rfl)
theorem dX2_sameRows_6 : decode cX2_sameRows 6 = .ok (.bipush 10, 2) := dk_16 10 (dk_at dksX2_sameRows_0 6 rfl rfl)
theorem dX2_sameRows_8 : decode cX2_sameRows 8 = .ok (.anewarray 76, 3) := dk_189 0 76 (dk_at dksX2_sameRows_0 8 rfl rfl)
theorem dX2_sameRows_11 : decode cX2_sameRows 11 = .ok (.astore 4, 2) := dk_58 4 (dk_at dksX2_sameRows_0 11 rfl rfl)
theorem dX2_sameRows_13 : decode cX2_sameRows 13 = .ok (.aload_n 1, 1) := dk_43 (dk_at dksX2_sameRows_0 13 rfl rfl)
theorem dX2_sameRows_14 : decode cX2_sameRows 14 = .ok (.aload_n 3, 1) := dk_45 (dk_at dksX2_sameRows_0 14 rfl rfl)
theorem dX2_sameRows_15 : decode cX2_sameRows 15 = .ok (.invokestatic 171, 3) := dk_184 0 171 (dk_at dksX2_sameRows_0 15 rfl rfl)
theorem dX2_sameRows_18 : decode cX2_sameRows 18 = .ok (.astore 5, 2) := dk_58 5 (dk_at dksX2_sameRows_0 18 rfl rfl)
theorem dX2_sameRows_20 : decode cX2_sameRows 20 = .ok (.aload_n 2, 1) := dk_44 (dk_at dksX2_sameRows_0 20 rfl rfl)
theorem dX2_sameRows_21 : decode cX2_sameRows 21 = .ok (.aload 4, 2) := dk_25 4 (dk_at dksX2_sameRows_0 21 rfl rfl)
theorem dX2_sameRows_23 : decode cX2_sameRows 23 = .ok (.invokestatic 171, 3) := dk_184 0 171 (dk_at dksX2_sameRows_1 0 rfl rfl)
theorem dX2_sameRows_26 : decode cX2_sameRows 26 = .ok (.astore 6, 2) := dk_58 6 (dk_at dksX2_sameRows_1 3 rfl rfl)
theorem dX2_sameRows_28 : decode cX2_sameRows 28 = .ok (.aload_n 3, 1) := dk_45 (dk_at dksX2_sameRows_1 5 rfl rfl)
theorem dX2_sameRows_29 : decode cX2_sameRows 29 = .ok (.invokestatic 175, 3) := dk_184 0 175 (dk_at dksX2_sameRows_1 6 rfl rfl)
theorem dX2_sameRows_32 : decode cX2_sameRows 32 = .ok (.istore 7, 2) := dk_54 7 (dk_at dksX2_sameRows_1 9 rfl rfl)
theorem dX2_sameRows_34 : decode cX2_sameRows 34 = .ok (.aload 4, 2) := dk_25 4 (dk_at dksX2_sameRows_1 11 rfl rfl)
theorem dX2_sameRows_36 : decode cX2_sameRows 36 = .ok (.invokestatic 175, 3) := dk_184 0 175 (dk_at dksX2_sameRows_1 13 rfl rfl)
theorem dX2_sameRows_39 : decode cX2_sameRows 39 = .ok (.istore 8, 2) := dk_54 8 (dk_at dksX2_sameRows_1 16 rfl rfl)
theorem dX2_sameRows_41 : decode cX2_sameRows 41 = .ok (.iload 7, 2) := dk_21 7 (dk_at dksX2_sameRows_1 18 rfl rfl)
theorem dX2_sameRows_43 : decode cX2_sameRows 43 = .ok (.iload 8, 2) := dk_21 8 (dk_at dksX2_sameRows_1 20 rfl rfl)
theorem dX2_sameRows_45 : decode cX2_sameRows 45 = .ok (.iconst (-1), 1) := dk_2 (dk_at dksX2_sameRows_1 22 rfl rfl)
theorem dX2_sameRows_46 : decode cX2_sameRows 46 = .ok (.ixor, 1) := dk_130 (dk_at dksX2_sameRows_1 23 rfl rfl)
theorem dX2_sameRows_47 : decode cX2_sameRows 47 = .ok (.iand, 1) := dk_126 (dk_at dksX2_sameRows_2 0 rfl rfl)
theorem dX2_sameRows_48 : decode cX2_sameRows 48 = .ok (.istore 9, 2) := dk_54 9 (dk_at dksX2_sameRows_2 1 rfl rfl)
theorem dX2_sameRows_50 : decode cX2_sameRows 50 = .ok (.iload 8, 2) := dk_21 8 (dk_at dksX2_sameRows_2 3 rfl rfl)
theorem dX2_sameRows_52 : decode cX2_sameRows 52 = .ok (.iload 7, 2) := dk_21 7 (dk_at dksX2_sameRows_2 5 rfl rfl)
theorem dX2_sameRows_54 : decode cX2_sameRows 54 = .ok (.iconst (-1), 1) := dk_2 (dk_at dksX2_sameRows_2 7 rfl rfl)
theorem dX2_sameRows_55 : decode cX2_sameRows 55 = .ok (.ixor, 1) := dk_130 (dk_at dksX2_sameRows_2 8 rfl rfl)
theorem dX2_sameRows_56 : decode cX2_sameRows 56 = .ok (.iand, 1) := dk_126 (dk_at dksX2_sameRows_2 9 rfl rfl)
theorem dX2_sameRows_57 : decode cX2_sameRows 57 = .ok (.istore 10, 2) := dk_54 10 (dk_at dksX2_sameRows_2 10 rfl rfl)
theorem dX2_sameRows_59 : decode cX2_sameRows 59 = .ok (.aload 5, 2) := dk_25 5 (dk_at dksX2_sameRows_2 12 rfl rfl)
theorem dX2_sameRows_61 : decode cX2_sameRows 61 = .ok (.getfield 131, 3) := dk_180 0 131 (dk_at dksX2_sameRows_2 14 rfl rfl)
theorem dX2_sameRows_64 : decode cX2_sameRows 64 = .ok (.ifCond .ne 7, 3) := dk_154 0 7 (dk_at dksX2_sameRows_2 17 rfl rfl)
theorem dX2_sameRows_67 : decode cX2_sameRows 67 = .ok (.iconst 1, 1) := dk_4 (dk_at dksX2_sameRows_2 20 rfl rfl)
theorem dX2_sameRows_68 : decode cX2_sameRows 68 = .ok (.goto 4, 3) := dk_167 0 4 (dk_at dksX2_sameRows_2 21 rfl rfl)
theorem dX2_sameRows_71 : decode cX2_sameRows 71 = .ok (.iconst 0, 1) := dk_3 (dk_at dksX2_sameRows_3 0 rfl rfl)
theorem dX2_sameRows_72 : decode cX2_sameRows 72 = .ok (.istore 11, 2) := dk_54 11 (dk_at dksX2_sameRows_3 1 rfl rfl)
theorem dX2_sameRows_74 : decode cX2_sameRows 74 = .ok (.aload 6, 2) := dk_25 6 (dk_at dksX2_sameRows_3 3 rfl rfl)
theorem dX2_sameRows_76 : decode cX2_sameRows 76 = .ok (.getfield 131, 3) := dk_180 0 131 (dk_at dksX2_sameRows_3 5 rfl rfl)
theorem dX2_sameRows_79 : decode cX2_sameRows 79 = .ok (.ifCond .ne 7, 3) := dk_154 0 7 (dk_at dksX2_sameRows_3 8 rfl rfl)
theorem dX2_sameRows_82 : decode cX2_sameRows 82 = .ok (.iconst 1, 1) := dk_4 (dk_at dksX2_sameRows_3 11 rfl rfl)
theorem dX2_sameRows_83 : decode cX2_sameRows 83 = .ok (.goto 4, 3) := dk_167 0 4 (dk_at dksX2_sameRows_3 12 rfl rfl)
theorem dX2_sameRows_86 : decode cX2_sameRows 86 = .ok (.iconst 0, 1) := dk_3 (dk_at dksX2_sameRows_3 15 rfl rfl)
theorem dX2_sameRows_87 : decode cX2_sameRows 87 = .ok (.istore 12, 2) := dk_54 12 (dk_at dksX2_sameRows_3 16 rfl rfl)
theorem dX2_sameRows_89 : decode cX2_sameRows 89 = .ok (.iload 9, 2) := dk_21 9 (dk_at dksX2_sameRows_3 18 rfl rfl)
theorem dX2_sameRows_91 : decode cX2_sameRows 91 = .ok (.ifCond .eq 8, 3) := dk_153 0 8 (dk_at dksX2_sameRows_3 20 rfl rfl)
theorem dX2_sameRows_94 : decode cX2_sameRows 94 = .ok (.iload 12, 2) := dk_21 12 (dk_at dksX2_sameRows_4 0 rfl rfl)
theorem dX2_sameRows_96 : decode cX2_sameRows 96 = .ok (.ifCond .eq 13, 3) := dk_153 0 13 (dk_at dksX2_sameRows_4 2 rfl rfl)
theorem dX2_sameRows_99 : decode cX2_sameRows 99 = .ok (.iload 10, 2) := dk_21 10 (dk_at dksX2_sameRows_4 5 rfl rfl)
theorem dX2_sameRows_101 : decode cX2_sameRows 101 = .ok (.ifCond .eq 18, 3) := dk_153 0 18 (dk_at dksX2_sameRows_4 7 rfl rfl)
theorem dX2_sameRows_104 : decode cX2_sameRows 104 = .ok (.iload 11, 2) := dk_21 11 (dk_at dksX2_sameRows_4 10 rfl rfl)
theorem dX2_sameRows_106 : decode cX2_sameRows 106 = .ok (.ifCond .ne 13, 3) := dk_154 0 13 (dk_at dksX2_sameRows_4 12 rfl rfl)
theorem dX2_sameRows_109 : decode cX2_sameRows 109 = .ok (.new 132, 3) := dk_187 0 132 (dk_at dksX2_sameRows_4 15 rfl rfl)
theorem dX2_sameRows_112 : decode cX2_sameRows 112 = .ok (.dup, 1) := dk_89 (dk_at dksX2_sameRows_4 18 rfl rfl)
theorem dX2_sameRows_113 : decode cX2_sameRows 113 = .ok (.bipush 6, 2) := dk_16 6 (dk_at dksX2_sameRows_4 19 rfl rfl)
theorem dX2_sameRows_115 : decode cX2_sameRows 115 = .ok (.invokespecial 134, 3) := dk_183 0 134 (dk_at dksX2_sameRows_4 21 rfl rfl)
theorem dX2_sameRows_118 : decode cX2_sameRows 118 = .ok (.athrow, 1) := dk_191 (dk_at dksX2_sameRows_5 0 rfl rfl)
theorem dX2_sameRows_119 : decode cX2_sameRows 119 = .ok (.iload 9, 2) := dk_21 9 (dk_at dksX2_sameRows_5 1 rfl rfl)
theorem dX2_sameRows_121 : decode cX2_sameRows 121 = .ok (.aload 6, 2) := dk_25 6 (dk_at dksX2_sameRows_5 3 rfl rfl)
theorem dX2_sameRows_123 : decode cX2_sameRows 123 = .ok (.getfield 95, 3) := dk_180 0 95 (dk_at dksX2_sameRows_5 5 rfl rfl)
theorem dX2_sameRows_126 : decode cX2_sameRows 126 = .ok (.iand, 1) := dk_126 (dk_at dksX2_sameRows_5 8 rfl rfl)
theorem dX2_sameRows_127 : decode cX2_sameRows 127 = .ok (.ifCond .ne 14, 3) := dk_154 0 14 (dk_at dksX2_sameRows_5 9 rfl rfl)
theorem dX2_sameRows_130 : decode cX2_sameRows 130 = .ok (.iload 10, 2) := dk_21 10 (dk_at dksX2_sameRows_5 12 rfl rfl)
theorem dX2_sameRows_132 : decode cX2_sameRows 132 = .ok (.aload 5, 2) := dk_25 5 (dk_at dksX2_sameRows_5 14 rfl rfl)
theorem dX2_sameRows_134 : decode cX2_sameRows 134 = .ok (.getfield 95, 3) := dk_180 0 95 (dk_at dksX2_sameRows_5 16 rfl rfl)
theorem dX2_sameRows_137 : decode cX2_sameRows 137 = .ok (.iand, 1) := dk_126 (dk_at dksX2_sameRows_5 19 rfl rfl)
theorem dX2_sameRows_138 : decode cX2_sameRows 138 = .ok (.ifCond .eq 12, 3) := dk_153 0 12 (dk_at dksX2_sameRows_5 20 rfl rfl)
theorem dX2_sameRows_141 : decode cX2_sameRows 141 = .ok (.new 132, 3) := dk_187 0 132 (dk_at dksX2_sameRows_6 0 rfl rfl)
theorem dX2_sameRows_144 : decode cX2_sameRows 144 = .ok (.dup, 1) := dk_89 (dk_at dksX2_sameRows_6 3 rfl rfl)
theorem dX2_sameRows_145 : decode cX2_sameRows 145 = .ok (.iconst 4, 1) := dk_7 (dk_at dksX2_sameRows_6 4 rfl rfl)
theorem dX2_sameRows_146 : decode cX2_sameRows 146 = .ok (.invokespecial 134, 3) := dk_183 0 134 (dk_at dksX2_sameRows_6 5 rfl rfl)
theorem dX2_sameRows_149 : decode cX2_sameRows 149 = .ok (.athrow, 1) := dk_191 (dk_at dksX2_sameRows_6 8 rfl rfl)
theorem dX2_sameRows_150 : decode cX2_sameRows 150 = .ok (.aload 5, 2) := dk_25 5 (dk_at dksX2_sameRows_6 9 rfl rfl)
theorem dX2_sameRows_152 : decode cX2_sameRows 152 = .ok (.aload 6, 2) := dk_25 6 (dk_at dksX2_sameRows_6 11 rfl rfl)
theorem dX2_sameRows_154 : decode cX2_sameRows 154 = .ok (.if_acmp .ne 20, 3) := dk_166 0 20 (dk_at dksX2_sameRows_6 13 rfl rfl)
theorem dX2_sameRows_157 : decode cX2_sameRows 157 = .ok (.iload 9, 2) := dk_21 9 (dk_at dksX2_sameRows_6 16 rfl rfl)
theorem dX2_sameRows_159 : decode cX2_sameRows 159 = .ok (.iload 10, 2) := dk_21 10 (dk_at dksX2_sameRows_6 18 rfl rfl)
theorem dX2_sameRows_161 : decode cX2_sameRows 161 = .ok (.ior, 1) := dk_128 (dk_at dksX2_sameRows_6 20 rfl rfl)
theorem dX2_sameRows_162 : decode cX2_sameRows 162 = .ok (.ifCond .eq 12, 3) := dk_153 0 12 (dk_at dksX2_sameRows_6 21 rfl rfl)
theorem dX2_sameRows_165 : decode cX2_sameRows 165 = .ok (.new 132, 3) := dk_187 0 132 (dk_at dksX2_sameRows_7 0 rfl rfl)
theorem dX2_sameRows_168 : decode cX2_sameRows 168 = .ok (.dup, 1) := dk_89 (dk_at dksX2_sameRows_7 3 rfl rfl)
theorem dX2_sameRows_169 : decode cX2_sameRows 169 = .ok (.iconst 3, 1) := dk_6 (dk_at dksX2_sameRows_7 4 rfl rfl)
theorem dX2_sameRows_170 : decode cX2_sameRows 170 = .ok (.invokespecial 134, 3) := dk_183 0 134 (dk_at dksX2_sameRows_7 5 rfl rfl)
theorem dX2_sameRows_173 : decode cX2_sameRows 173 = .ok (.athrow, 1) := dk_191 (dk_at dksX2_sameRows_7 8 rfl rfl)
theorem dX2_sameRows_174 : decode cX2_sameRows 174 = .ok (.aload 5, 2) := dk_25 5 (dk_at dksX2_sameRows_7 9 rfl rfl)
theorem dX2_sameRows_176 : decode cX2_sameRows 176 = .ok (.aload 6, 2) := dk_25 6 (dk_at dksX2_sameRows_7 11 rfl rfl)
theorem dX2_sameRows_178 : decode cX2_sameRows 178 = .ok (.if_acmp .eq 149, 3) := dk_165 0 149 (dk_at dksX2_sameRows_7 13 rfl rfl)
theorem dX2_sameRows_181 : decode cX2_sameRows 181 = .ok (.new 92, 3) := dk_187 0 92 (dk_at dksX2_sameRows_7 16 rfl rfl)
theorem dX2_sameRows_184 : decode cX2_sameRows 184 = .ok (.dup, 1) := dk_89 (dk_at dksX2_sameRows_7 19 rfl rfl)
theorem dX2_sameRows_185 : decode cX2_sameRows 185 = .ok (.iconst 1, 1) := dk_4 (dk_at dksX2_sameRows_7 20 rfl rfl)
theorem dX2_sameRows_186 : decode cX2_sameRows 186 = .ok (.invokespecial 94, 3) := dk_183 0 94 (dk_at dksX2_sameRows_7 21 rfl rfl)
theorem dX2_sameRows_189 : decode cX2_sameRows 189 = .ok (.astore 13, 2) := dk_58 13 (dk_at dksX2_sameRows_8 0 rfl rfl)
theorem dX2_sameRows_191 : decode cX2_sameRows 191 = .ok (.iload 11, 2) := dk_21 11 (dk_at dksX2_sameRows_8 2 rfl rfl)
theorem dX2_sameRows_193 : decode cX2_sameRows 193 = .ok (.ifCond .eq 50, 3) := dk_153 0 50 (dk_at dksX2_sameRows_8 4 rfl rfl)
theorem dX2_sameRows_196 : decode cX2_sameRows 196 = .ok (.iload 12, 2) := dk_21 12 (dk_at dksX2_sameRows_8 7 rfl rfl)
theorem dX2_sameRows_198 : decode cX2_sameRows 198 = .ok (.ifCond .eq 45, 3) := dk_153 0 45 (dk_at dksX2_sameRows_8 9 rfl rfl)
theorem dX2_sameRows_201 : decode cX2_sameRows 201 = .ok (.aload 5, 2) := dk_25 5 (dk_at dksX2_sameRows_8 12 rfl rfl)
theorem dX2_sameRows_203 : decode cX2_sameRows 203 = .ok (.getfield 95, 3) := dk_180 0 95 (dk_at dksX2_sameRows_8 14 rfl rfl)
theorem dX2_sameRows_206 : decode cX2_sameRows 206 = .ok (.aload 6, 2) := dk_25 6 (dk_at dksX2_sameRows_8 17 rfl rfl)
theorem dX2_sameRows_208 : decode cX2_sameRows 208 = .ok (.getfield 95, 3) := dk_180 0 95 (dk_at dksX2_sameRows_8 19 rfl rfl)
theorem dX2_sameRows_211 : decode cX2_sameRows 211 = .ok (.ior, 1) := dk_128 (dk_at dksX2_sameRows_8 22 rfl rfl)
theorem dX2_sameRows_212 : decode cX2_sameRows 212 = .ok (.invokestatic 179, 3) := dk_184 0 179 (dk_at dksX2_sameRows_9 0 rfl rfl)
theorem dX2_sameRows_215 : decode cX2_sameRows 215 = .ok (.astore 13, 2) := dk_58 13 (dk_at dksX2_sameRows_9 3 rfl rfl)
theorem dX2_sameRows_217 : decode cX2_sameRows 217 = .ok (.aload 13, 2) := dk_25 13 (dk_at dksX2_sameRows_9 5 rfl rfl)
theorem dX2_sameRows_219 : decode cX2_sameRows 219 = .ok (.aload 5, 2) := dk_25 5 (dk_at dksX2_sameRows_9 7 rfl rfl)
theorem dX2_sameRows_221 : decode cX2_sameRows 221 = .ok (.getfield 143, 3) := dk_180 0 143 (dk_at dksX2_sameRows_9 9 rfl rfl)
theorem dX2_sameRows_224 : decode cX2_sameRows 224 = .ok (.ifCond .ne 11, 3) := dk_154 0 11 (dk_at dksX2_sameRows_9 12 rfl rfl)
theorem dX2_sameRows_227 : decode cX2_sameRows 227 = .ok (.aload 6, 2) := dk_25 6 (dk_at dksX2_sameRows_9 15 rfl rfl)
theorem dX2_sameRows_229 : decode cX2_sameRows 229 = .ok (.getfield 143, 3) := dk_180 0 143 (dk_at dksX2_sameRows_9 17 rfl rfl)
theorem dX2_sameRows_232 : decode cX2_sameRows 232 = .ok (.ifCond .eq 7, 3) := dk_153 0 7 (dk_at dksX2_sameRows_9 20 rfl rfl)
theorem dX2_sameRows_235 : decode cX2_sameRows 235 = .ok (.iconst 1, 1) := dk_4 (dk_at dksX2_sameRows_9 23 rfl rfl)
theorem dX2_sameRows_236 : decode cX2_sameRows 236 = .ok (.goto 4, 3) := dk_167 0 4 (dk_at dksX2_sameRows_10 0 rfl rfl)
theorem dX2_sameRows_239 : decode cX2_sameRows 239 = .ok (.iconst 0, 1) := dk_3 (dk_at dksX2_sameRows_10 3 rfl rfl)
theorem dX2_sameRows_240 : decode cX2_sameRows 240 = .ok (.putfield 143, 3) := dk_181 0 143 (dk_at dksX2_sameRows_10 4 rfl rfl)
theorem dX2_sameRows_243 : decode cX2_sameRows 243 = .ok (.iload 12, 2) := dk_21 12 (dk_at dksX2_sameRows_10 7 rfl rfl)
theorem dX2_sameRows_245 : decode cX2_sameRows 245 = .ok (.ifCond .eq 14, 3) := dk_153 0 14 (dk_at dksX2_sameRows_10 9 rfl rfl)
theorem dX2_sameRows_248 : decode cX2_sameRows 248 = .ok (.aload_n 0, 1) := dk_42 (dk_at dksX2_sameRows_10 12 rfl rfl)
theorem dX2_sameRows_249 : decode cX2_sameRows 249 = .ok (.aload 6, 2) := dk_25 6 (dk_at dksX2_sameRows_10 13 rfl rfl)
theorem dX2_sameRows_251 : decode cX2_sameRows 251 = .ok (.aload_n 3, 1) := dk_45 (dk_at dksX2_sameRows_10 15 rfl rfl)
theorem dX2_sameRows_252 : decode cX2_sameRows 252 = .ok (.iload 9, 2) := dk_21 9 (dk_at dksX2_sameRows_10 16 rfl rfl)
theorem dX2_sameRows_254 : decode cX2_sameRows 254 = .ok (.aload 13, 2) := dk_25 13 (dk_at dksX2_sameRows_10 18 rfl rfl)
theorem dX2_sameRows_256 : decode cX2_sameRows 256 = .ok (.invokevirtual 183, 3) := dk_182 0 183 (dk_at dksX2_sameRows_10 20 rfl rfl)
theorem dX2_sameRows_259 : decode cX2_sameRows 259 = .ok (.iload 11, 2) := dk_21 11 (dk_at dksX2_sameRows_11 0 rfl rfl)
theorem dX2_sameRows_261 : decode cX2_sameRows 261 = .ok (.ifCond .eq 15, 3) := dk_153 0 15 (dk_at dksX2_sameRows_11 2 rfl rfl)
theorem dX2_sameRows_264 : decode cX2_sameRows 264 = .ok (.aload_n 0, 1) := dk_42 (dk_at dksX2_sameRows_11 5 rfl rfl)
theorem dX2_sameRows_265 : decode cX2_sameRows 265 = .ok (.aload 5, 2) := dk_25 5 (dk_at dksX2_sameRows_11 6 rfl rfl)
theorem dX2_sameRows_267 : decode cX2_sameRows 267 = .ok (.aload 4, 2) := dk_25 4 (dk_at dksX2_sameRows_11 8 rfl rfl)
theorem dX2_sameRows_269 : decode cX2_sameRows 269 = .ok (.iload 10, 2) := dk_21 10 (dk_at dksX2_sameRows_11 10 rfl rfl)
theorem dX2_sameRows_271 : decode cX2_sameRows 271 = .ok (.aload 13, 2) := dk_25 13 (dk_at dksX2_sameRows_11 12 rfl rfl)
theorem dX2_sameRows_273 : decode cX2_sameRows 273 = .ok (.invokevirtual 183, 3) := dk_182 0 183 (dk_at dksX2_sameRows_11 14 rfl rfl)
theorem dX2_sameRows_276 : decode cX2_sameRows 276 = .ok (.aload_n 0, 1) := dk_42 (dk_at dksX2_sameRows_11 17 rfl rfl)
theorem dX2_sameRows_277 : decode cX2_sameRows 277 = .ok (.iload 12, 2) := dk_21 12 (dk_at dksX2_sameRows_11 18 rfl rfl)
theorem dX2_sameRows_279 : decode cX2_sameRows 279 = .ok (.ifCond .eq 15, 3) := dk_153 0 15 (dk_at dksX2_sameRows_11 20 rfl rfl)
theorem dX2_sameRows_282 : decode cX2_sameRows 282 = .ok (.aload 6, 2) := dk_25 6 (dk_at dksX2_sameRows_12 0 rfl rfl)
theorem dX2_sameRows_284 : decode cX2_sameRows 284 = .ok (.getfield 143, 3) := dk_180 0 143 (dk_at dksX2_sameRows_12 2 rfl rfl)
theorem dX2_sameRows_287 : decode cX2_sameRows 287 = .ok (.ifCond .eq 7, 3) := dk_153 0 7 (dk_at dksX2_sameRows_12 5 rfl rfl)
theorem dX2_sameRows_290 : decode cX2_sameRows 290 = .ok (.iconst 1, 1) := dk_4 (dk_at dksX2_sameRows_12 8 rfl rfl)
theorem dX2_sameRows_291 : decode cX2_sameRows 291 = .ok (.goto 4, 3) := dk_167 0 4 (dk_at dksX2_sameRows_12 9 rfl rfl)
theorem dX2_sameRows_294 : decode cX2_sameRows 294 = .ok (.iconst 0, 1) := dk_3 (dk_at dksX2_sameRows_12 12 rfl rfl)
theorem dX2_sameRows_295 : decode cX2_sameRows 295 = .ok (.aload_n 3, 1) := dk_45 (dk_at dksX2_sameRows_12 13 rfl rfl)
theorem dX2_sameRows_296 : decode cX2_sameRows 296 = .ok (.iload 9, 2) := dk_21 9 (dk_at dksX2_sameRows_12 14 rfl rfl)
theorem dX2_sameRows_298 : decode cX2_sameRows 298 = .ok (.invokevirtual 187, 3) := dk_182 0 187 (dk_at dksX2_sameRows_12 16 rfl rfl)
theorem dX2_sameRows_301 : decode cX2_sameRows 301 = .ok (.aload_n 0, 1) := dk_42 (dk_at dksX2_sameRows_12 19 rfl rfl)
theorem dX2_sameRows_302 : decode cX2_sameRows 302 = .ok (.iload 11, 2) := dk_21 11 (dk_at dksX2_sameRows_12 20 rfl rfl)
theorem dX2_sameRows_304 : decode cX2_sameRows 304 = .ok (.ifCond .eq 15, 3) := dk_153 0 15 (dk_at dksX2_sameRows_13 0 rfl rfl)
theorem dX2_sameRows_307 : decode cX2_sameRows 307 = .ok (.aload 5, 2) := dk_25 5 (dk_at dksX2_sameRows_13 3 rfl rfl)
theorem dX2_sameRows_309 : decode cX2_sameRows 309 = .ok (.getfield 143, 3) := dk_180 0 143 (dk_at dksX2_sameRows_13 5 rfl rfl)
theorem dX2_sameRows_312 : decode cX2_sameRows 312 = .ok (.ifCond .eq 7, 3) := dk_153 0 7 (dk_at dksX2_sameRows_13 8 rfl rfl)
theorem dX2_sameRows_315 : decode cX2_sameRows 315 = .ok (.iconst 1, 1) := dk_4 (dk_at dksX2_sameRows_13 11 rfl rfl)
theorem dX2_sameRows_316 : decode cX2_sameRows 316 = .ok (.goto 4, 3) := dk_167 0 4 (dk_at dksX2_sameRows_13 12 rfl rfl)
theorem dX2_sameRows_319 : decode cX2_sameRows 319 = .ok (.iconst 0, 1) := dk_3 (dk_at dksX2_sameRows_13 15 rfl rfl)
theorem dX2_sameRows_320 : decode cX2_sameRows 320 = .ok (.aload 4, 2) := dk_25 4 (dk_at dksX2_sameRows_13 16 rfl rfl)
theorem dX2_sameRows_322 : decode cX2_sameRows 322 = .ok (.iload 10, 2) := dk_21 10 (dk_at dksX2_sameRows_13 18 rfl rfl)
theorem dX2_sameRows_324 : decode cX2_sameRows 324 = .ok (.invokevirtual 187, 3) := dk_182 0 187 (dk_at dksX2_sameRows_13 20 rfl rfl)
theorem dX2_sameRows_327 : decode cX2_sameRows 327 = .ok (.iconst 0, 1) := dk_3 (dk_at dksX2_sameRows_13 23 rfl rfl)
theorem dX2_sameRows_328 : decode cX2_sameRows 328 = .ok (.istore 13, 2) := dk_54 13 (dk_at dksX2_sameRows_14 0 rfl rfl)
theorem dX2_sameRows_330 : decode cX2_sameRows 330 = .ok (.iload 13, 2) := dk_21 13 (dk_at dksX2_sameRows_14 2 rfl rfl)
theorem dX2_sameRows_332 : decode cX2_sameRows 332 = .ok (.bipush 10, 2) := dk_16 10 (dk_at dksX2_sameRows_14 4 rfl rfl)
theorem dX2_sameRows_334 : decode cX2_sameRows 334 = .ok (.if_icmp .ge 37, 3) := dk_162 0 37 (dk_at dksX2_sameRows_14 6 rfl rfl)
theorem dX2_sameRows_337 : decode cX2_sameRows 337 = .ok (.aload_n 3, 1) := dk_45 (dk_at dksX2_sameRows_14 9 rfl rfl)
theorem dX2_sameRows_338 : decode cX2_sameRows 338 = .ok (.iload 13, 2) := dk_21 13 (dk_at dksX2_sameRows_14 10 rfl rfl)
theorem dX2_sameRows_340 : decode cX2_sameRows 340 = .ok (.aaload, 1) := dk_50 (dk_at dksX2_sameRows_14 12 rfl rfl)
theorem dX2_sameRows_341 : decode cX2_sameRows 341 = .ok (.ifnull 24, 3) := dk_198 0 24 (dk_at dksX2_sameRows_14 13 rfl rfl)
theorem dX2_sameRows_344 : decode cX2_sameRows 344 = .ok (.aload 4, 2) := dk_25 4 (dk_at dksX2_sameRows_14 16 rfl rfl)
theorem dX2_sameRows_346 : decode cX2_sameRows 346 = .ok (.iload 13, 2) := dk_21 13 (dk_at dksX2_sameRows_14 18 rfl rfl)
theorem dX2_sameRows_348 : decode cX2_sameRows 348 = .ok (.aaload, 1) := dk_50 (dk_at dksX2_sameRows_14 20 rfl rfl)
theorem dX2_sameRows_349 : decode cX2_sameRows 349 = .ok (.ifnull 16, 3) := dk_198 0 16 (dk_at dksX2_sameRows_14 21 rfl rfl)
theorem dX2_sameRows_352 : decode cX2_sameRows 352 = .ok (.aload_n 0, 1) := dk_42 (dk_at dksX2_sameRows_15 0 rfl rfl)
theorem dX2_sameRows_353 : decode cX2_sameRows 353 = .ok (.aload_n 3, 1) := dk_45 (dk_at dksX2_sameRows_15 1 rfl rfl)
theorem dX2_sameRows_354 : decode cX2_sameRows 354 = .ok (.iload 13, 2) := dk_21 13 (dk_at dksX2_sameRows_15 2 rfl rfl)
theorem dX2_sameRows_356 : decode cX2_sameRows 356 = .ok (.aaload, 1) := dk_50 (dk_at dksX2_sameRows_15 4 rfl rfl)
theorem dX2_sameRows_357 : decode cX2_sameRows 357 = .ok (.aload 4, 2) := dk_25 4 (dk_at dksX2_sameRows_15 5 rfl rfl)
theorem dX2_sameRows_359 : decode cX2_sameRows 359 = .ok (.iload 13, 2) := dk_21 13 (dk_at dksX2_sameRows_15 7 rfl rfl)
theorem dX2_sameRows_361 : decode cX2_sameRows 361 = .ok (.aaload, 1) := dk_50 (dk_at dksX2_sameRows_15 9 rfl rfl)
theorem dX2_sameRows_362 : decode cX2_sameRows 362 = .ok (.invokevirtual 155, 3) := dk_182 0 155 (dk_at dksX2_sameRows_15 10 rfl rfl)
theorem dX2_sameRows_365 : decode cX2_sameRows 365 = .ok (.iinc 13 1, 3) := dk_132 13 1 (dk_at dksX2_sameRows_15 13 rfl rfl)
theorem dX2_sameRows_368 : decode cX2_sameRows 368 = .ok (.goto (-38), 3) := dk_167 255 218 (dk_at dksX2_sameRows_15 16 rfl rfl)
theorem dX2_sameRows_371 : decode cX2_sameRows 371 = .ok (.return_, 1) := dk_177 (dk_at dksX2_sameRows_15 19 rfl rfl)
abbrev cX2_lays : ByteArray := prog_45_method_26_code
def yX2_lays : MethodName := ⟨RX2, "lays", "(LRowenTongueModel$Row;[LRowenTongueModel$Type;)LRowenTongueModel$Row;"⟩
def dkwX2_lays_1 : List UInt8 := [180, 0, 104, 182, 0, 128, 77, 167, 255, 230, 44, 176]
abbrev dktX2_lays_1 : List UInt8 := dkwX2_lays_1 ++ []
def dkwX2_lays_0 : List UInt8 := [42, 182, 0, 128, 77, 44, 180, 0, 131, 5, 160, 0, 24, 43, 44, 180, 0, 98, 44, 180, 0, 101, 83, 44]
abbrev dktX2_lays_0 : List UInt8 := dkwX2_lays_0 ++ dktX2_lays_1
theorem dksX2_lays_0 : cX2_lays.data.toList.drop 0 = dktX2_lays_0 := by decide +kernel
theorem dksX2_lays_1 : cX2_lays.data.toList.drop 24 = dktX2_lays_1 := dk_seg dksX2_lays_0 24 rfl rfl
theorem dX2_lays_0 : decode cX2_lays 0 = .ok (.aload_n 0, 1) := dk_42 (dk_at dksX2_lays_0 0 rfl rfl)
theorem dX2_lays_1 : decode cX2_lays 1 = .ok (.invokevirtual 128, 3) := dk_182 0 128 (dk_at dksX2_lays_0 1 rfl rfl)
theorem dX2_lays_4 : decode cX2_lays 4 = .ok (.astore_n 2, 1) := dk_77 (dk_at dksX2_lays_0 4 rfl rfl)
theorem dX2_lays_5 : decode cX2_lays 5 = .ok (.aload_n 2, 1) := dk_44 (dk_at dksX2_lays_0 5 rfl rfl)
theorem dX2_lays_6 : decode cX2_lays 6 = .ok (.getfield 131, 3) := dk_180 0 131 (dk_at dksX2_lays_0 6 rfl rfl)
theorem dX2_lays_9 : decode cX2_lays 9 = .ok (.iconst 2, 1) := dk_5 (dk_at dksX2_lays_0 9 rfl rfl)
theorem dX2_lays_10 : decode cX2_lays 10 = .ok (.if_icmp .ne 24, 3) := dk_160 0 24 (dk_at dksX2_lays_0 10 rfl rfl)
theorem dX2_lays_13 : decode cX2_lays 13 = .ok (.aload_n 1, 1) := dk_43 (dk_at dksX2_lays_0 13 rfl rfl)
theorem dX2_lays_14 : decode cX2_lays 14 = .ok (.aload_n 2, 1) := dk_44 (dk_at dksX2_lays_0 14 rfl rfl)
theorem dX2_lays_15 : decode cX2_lays 15 = .ok (.getfield 98, 3) := dk_180 0 98 (dk_at dksX2_lays_0 15 rfl rfl)
theorem dX2_lays_18 : decode cX2_lays 18 = .ok (.aload_n 2, 1) := dk_44 (dk_at dksX2_lays_0 18 rfl rfl)
theorem dX2_lays_19 : decode cX2_lays 19 = .ok (.getfield 101, 3) := dk_180 0 101 (dk_at dksX2_lays_0 19 rfl rfl)
theorem dX2_lays_22 : decode cX2_lays 22 = .ok (.aastore, 1) := dk_83 (dk_at dksX2_lays_0 22 rfl rfl)
theorem dX2_lays_23 : decode cX2_lays 23 = .ok (.aload_n 2, 1) := dk_44 (dk_at dksX2_lays_0 23 rfl rfl)
theorem dX2_lays_24 : decode cX2_lays 24 = .ok (.getfield 104, 3) := dk_180 0 104 (dk_at dksX2_lays_1 0 rfl rfl)
theorem dX2_lays_27 : decode cX2_lays 27 = .ok (.invokevirtual 128, 3) := dk_182 0 128 (dk_at dksX2_lays_1 3 rfl rfl)
theorem dX2_lays_30 : decode cX2_lays 30 = .ok (.astore_n 2, 1) := dk_77 (dk_at dksX2_lays_1 6 rfl rfl)
theorem dX2_lays_31 : decode cX2_lays 31 = .ok (.goto (-26), 3) := dk_167 255 230 (dk_at dksX2_lays_1 7 rfl rfl)
theorem dX2_lays_34 : decode cX2_lays 34 = .ok (.aload_n 2, 1) := dk_44 (dk_at dksX2_lays_1 10 rfl rfl)
theorem dX2_lays_35 : decode cX2_lays 35 = .ok (.areturn, 1) := dk_176 (dk_at dksX2_lays_1 11 rfl rfl)
abbrev cX2_setOf : ByteArray := prog_45_method_27_code
def yX2_setOf : MethodName := ⟨RX2, "setOf", "([LRowenTongueModel$Type;)I"⟩
def dkwX2_setOf_1 : List UInt8 := [128, 60, 132, 2, 1, 167, 255, 231, 27, 172]
abbrev dktX2_setOf_1 : List UInt8 := dkwX2_setOf_1 ++ []
def dkwX2_setOf_0 : List UInt8 := [3, 60, 3, 61, 28, 16, 10, 162, 0, 25, 27, 42, 28, 50, 199, 0, 7, 3, 167, 0, 6, 4, 28, 120]
abbrev dktX2_setOf_0 : List UInt8 := dkwX2_setOf_0 ++ dktX2_setOf_1
theorem dksX2_setOf_0 : cX2_setOf.data.toList.drop 0 = dktX2_setOf_0 := by decide +kernel
theorem dksX2_setOf_1 : cX2_setOf.data.toList.drop 24 = dktX2_setOf_1 := dk_seg dksX2_setOf_0 24 rfl rfl
theorem dX2_setOf_0 : decode cX2_setOf 0 = .ok (.iconst 0, 1) := dk_3 (dk_at dksX2_setOf_0 0 rfl rfl)
theorem dX2_setOf_1 : decode cX2_setOf 1 = .ok (.istore_n 1, 1) := dk_60 (dk_at dksX2_setOf_0 1 rfl rfl)
theorem dX2_setOf_2 : decode cX2_setOf 2 = .ok (.iconst 0, 1) := dk_3 (dk_at dksX2_setOf_0 2 rfl rfl)
theorem dX2_setOf_3 : decode cX2_setOf 3 = .ok (.istore_n 2, 1) := dk_61 (dk_at dksX2_setOf_0 3 rfl rfl)
theorem dX2_setOf_4 : decode cX2_setOf 4 = .ok (.iload_n 2, 1) := dk_28 (dk_at dksX2_setOf_0 4 rfl rfl)
theorem dX2_setOf_5 : decode cX2_setOf 5 = .ok (.bipush 10, 2) := dk_16 10 (dk_at dksX2_setOf_0 5 rfl rfl)
theorem dX2_setOf_7 : decode cX2_setOf 7 = .ok (.if_icmp .ge 25, 3) := dk_162 0 25 (dk_at dksX2_setOf_0 7 rfl rfl)
theorem dX2_setOf_10 : decode cX2_setOf 10 = .ok (.iload_n 1, 1) := dk_27 (dk_at dksX2_setOf_0 10 rfl rfl)
theorem dX2_setOf_11 : decode cX2_setOf 11 = .ok (.aload_n 0, 1) := dk_42 (dk_at dksX2_setOf_0 11 rfl rfl)
theorem dX2_setOf_12 : decode cX2_setOf 12 = .ok (.iload_n 2, 1) := dk_28 (dk_at dksX2_setOf_0 12 rfl rfl)
theorem dX2_setOf_13 : decode cX2_setOf 13 = .ok (.aaload, 1) := dk_50 (dk_at dksX2_setOf_0 13 rfl rfl)
theorem dX2_setOf_14 : decode cX2_setOf 14 = .ok (.ifnonnull 7, 3) := dk_199 0 7 (dk_at dksX2_setOf_0 14 rfl rfl)
theorem dX2_setOf_17 : decode cX2_setOf 17 = .ok (.iconst 0, 1) := dk_3 (dk_at dksX2_setOf_0 17 rfl rfl)
theorem dX2_setOf_18 : decode cX2_setOf 18 = .ok (.goto 6, 3) := dk_167 0 6 (dk_at dksX2_setOf_0 18 rfl rfl)
theorem dX2_setOf_21 : decode cX2_setOf 21 = .ok (.iconst 1, 1) := dk_4 (dk_at dksX2_setOf_0 21 rfl rfl)
theorem dX2_setOf_22 : decode cX2_setOf 22 = .ok (.iload_n 2, 1) := dk_28 (dk_at dksX2_setOf_0 22 rfl rfl)
theorem dX2_setOf_23 : decode cX2_setOf 23 = .ok (.ishl, 1) := dk_120 (dk_at dksX2_setOf_0 23 rfl rfl)
theorem dX2_setOf_24 : decode cX2_setOf 24 = .ok (.ior, 1) := dk_128 (dk_at dksX2_setOf_1 0 rfl rfl)
theorem dX2_setOf_25 : decode cX2_setOf 25 = .ok (.istore_n 1, 1) := dk_60 (dk_at dksX2_setOf_1 1 rfl rfl)
theorem dX2_setOf_26 : decode cX2_setOf 26 = .ok (.iinc 2 1, 3) := dk_132 2 1 (dk_at dksX2_setOf_1 2 rfl rfl)
theorem dX2_setOf_29 : decode cX2_setOf 29 = .ok (.goto (-25), 3) := dk_167 255 231 (dk_at dksX2_setOf_1 5 rfl rfl)
theorem dX2_setOf_32 : decode cX2_setOf 32 = .ok (.iload_n 1, 1) := dk_27 (dk_at dksX2_setOf_1 8 rfl rfl)
theorem dX2_setOf_33 : decode cX2_setOf 33 = .ok (.ireturn, 1) := dk_172 (dk_at dksX2_setOf_1 9 rfl rfl)
abbrev cX2_endsRow : ByteArray := prog_45_method_29_code
def yX2_endsRow : MethodName := ⟨RX2, "endsRow", "(LRowenTongueModel$Row;[LRowenTongueModel$Type;ILRowenTongueModel$Row;)V"⟩
def dkwX2_endsRow_2 : List UInt8 := [183, 0, 134, 191, 132, 7, 1, 167, 255, 213, 43, 44, 29, 25, 4, 184, 0, 165, 181, 0, 169, 177]
abbrev dktX2_endsRow_2 : List UInt8 := dkwX2_endsRow_2 ++ []
def dkwX2_endsRow_1 : List UInt8 := [160, 0, 26, 1, 43, 44, 21, 7, 50, 22, 5, 184, 0, 120, 153, 0, 12, 187, 0, 132, 89, 6]
abbrev dktX2_endsRow_1 : List UInt8 := dkwX2_endsRow_1 ++ dktX2_endsRow_2
def dkwX2_endsRow_0 : List UInt8 := [42, 182, 0, 144, 55, 5, 3, 54, 7, 21, 7, 16, 10, 162, 0, 42, 29, 21, 7, 122, 4, 126, 4]
abbrev dktX2_endsRow_0 : List UInt8 := dkwX2_endsRow_0 ++ dktX2_endsRow_1
theorem dksX2_endsRow_0 : cX2_endsRow.data.toList.drop 0 = dktX2_endsRow_0 := by decide +kernel
theorem dksX2_endsRow_1 : cX2_endsRow.data.toList.drop 23 = dktX2_endsRow_1 := dk_seg dksX2_endsRow_0 23 rfl rfl
theorem dksX2_endsRow_2 : cX2_endsRow.data.toList.drop 45 = dktX2_endsRow_2 := dk_seg dksX2_endsRow_1 22 rfl rfl
theorem dX2_endsRow_0 : decode cX2_endsRow 0 = .ok (.aload_n 0, 1) := dk_42 (dk_at dksX2_endsRow_0 0 rfl rfl)
theorem dX2_endsRow_1 : decode cX2_endsRow 1 = .ok (.invokevirtual 144, 3) := dk_182 0 144 (dk_at dksX2_endsRow_0 1 rfl rfl)
theorem dX2_endsRow_4 : decode cX2_endsRow 4 = .ok (.lstore 5, 2) := dk_55 5 (dk_at dksX2_endsRow_0 4 rfl rfl)
theorem dX2_endsRow_6 : decode cX2_endsRow 6 = .ok (.iconst 0, 1) := dk_3 (dk_at dksX2_endsRow_0 6 rfl rfl)
theorem dX2_endsRow_7 : decode cX2_endsRow 7 = .ok (.istore 7, 2) := dk_54 7 (dk_at dksX2_endsRow_0 7 rfl rfl)
theorem dX2_endsRow_9 : decode cX2_endsRow 9 = .ok (.iload 7, 2) := dk_21 7 (dk_at dksX2_endsRow_0 9 rfl rfl)
theorem dX2_endsRow_11 : decode cX2_endsRow 11 = .ok (.bipush 10, 2) := dk_16 10 (dk_at dksX2_endsRow_0 11 rfl rfl)
theorem dX2_endsRow_13 : decode cX2_endsRow 13 = .ok (.if_icmp .ge 42, 3) := dk_162 0 42 (dk_at dksX2_endsRow_0 13 rfl rfl)
theorem dX2_endsRow_16 : decode cX2_endsRow 16 = .ok (.iload_n 3, 1) := dk_29 (dk_at dksX2_endsRow_0 16 rfl rfl)
theorem dX2_endsRow_17 : decode cX2_endsRow 17 = .ok (.iload 7, 2) := dk_21 7 (dk_at dksX2_endsRow_0 17 rfl rfl)
theorem dX2_endsRow_19 : decode cX2_endsRow 19 = .ok (.ishr, 1) := dk_122 (dk_at dksX2_endsRow_0 19 rfl rfl)
theorem dX2_endsRow_20 : decode cX2_endsRow 20 = .ok (.iconst 1, 1) := dk_4 (dk_at dksX2_endsRow_0 20 rfl rfl)
theorem dX2_endsRow_21 : decode cX2_endsRow 21 = .ok (.iand, 1) := dk_126 (dk_at dksX2_endsRow_0 21 rfl rfl)
theorem dX2_endsRow_22 : decode cX2_endsRow 22 = .ok (.iconst 1, 1) := dk_4 (dk_at dksX2_endsRow_0 22 rfl rfl)
theorem dX2_endsRow_23 : decode cX2_endsRow 23 = .ok (.if_icmp .ne 26, 3) := dk_160 0 26 (dk_at dksX2_endsRow_1 0 rfl rfl)
theorem dX2_endsRow_26 : decode cX2_endsRow 26 = .ok (.aconst_null, 1) := dk_1 (dk_at dksX2_endsRow_1 3 rfl rfl)
theorem dX2_endsRow_27 : decode cX2_endsRow 27 = .ok (.aload_n 1, 1) := dk_43 (dk_at dksX2_endsRow_1 4 rfl rfl)
theorem dX2_endsRow_28 : decode cX2_endsRow 28 = .ok (.aload_n 2, 1) := dk_44 (dk_at dksX2_endsRow_1 5 rfl rfl)
theorem dX2_endsRow_29 : decode cX2_endsRow 29 = .ok (.iload 7, 2) := dk_21 7 (dk_at dksX2_endsRow_1 6 rfl rfl)
theorem dX2_endsRow_31 : decode cX2_endsRow 31 = .ok (.aaload, 1) := dk_50 (dk_at dksX2_endsRow_1 8 rfl rfl)
theorem dX2_endsRow_32 : decode cX2_endsRow 32 = .ok (.lload 5, 2) := dk_22 5 (dk_at dksX2_endsRow_1 9 rfl rfl)
theorem dX2_endsRow_34 : decode cX2_endsRow 34 = .ok (.invokestatic 120, 3) := dk_184 0 120 (dk_at dksX2_endsRow_1 11 rfl rfl)
theorem dX2_endsRow_37 : decode cX2_endsRow 37 = .ok (.ifCond .eq 12, 3) := dk_153 0 12 (dk_at dksX2_endsRow_1 14 rfl rfl)
theorem dX2_endsRow_40 : decode cX2_endsRow 40 = .ok (.new 132, 3) := dk_187 0 132 (dk_at dksX2_endsRow_1 17 rfl rfl)
theorem dX2_endsRow_43 : decode cX2_endsRow 43 = .ok (.dup, 1) := dk_89 (dk_at dksX2_endsRow_1 20 rfl rfl)
theorem dX2_endsRow_44 : decode cX2_endsRow 44 = .ok (.iconst 3, 1) := dk_6 (dk_at dksX2_endsRow_1 21 rfl rfl)
theorem dX2_endsRow_45 : decode cX2_endsRow 45 = .ok (.invokespecial 134, 3) := dk_183 0 134 (dk_at dksX2_endsRow_2 0 rfl rfl)
theorem dX2_endsRow_48 : decode cX2_endsRow 48 = .ok (.athrow, 1) := dk_191 (dk_at dksX2_endsRow_2 3 rfl rfl)
theorem dX2_endsRow_49 : decode cX2_endsRow 49 = .ok (.iinc 7 1, 3) := dk_132 7 1 (dk_at dksX2_endsRow_2 4 rfl rfl)
theorem dX2_endsRow_52 : decode cX2_endsRow 52 = .ok (.goto (-43), 3) := dk_167 255 213 (dk_at dksX2_endsRow_2 7 rfl rfl)
theorem dX2_endsRow_55 : decode cX2_endsRow 55 = .ok (.aload_n 1, 1) := dk_43 (dk_at dksX2_endsRow_2 10 rfl rfl)
theorem dX2_endsRow_56 : decode cX2_endsRow 56 = .ok (.aload_n 2, 1) := dk_44 (dk_at dksX2_endsRow_2 11 rfl rfl)
theorem dX2_endsRow_57 : decode cX2_endsRow 57 = .ok (.iload_n 3, 1) := dk_29 (dk_at dksX2_endsRow_2 12 rfl rfl)
theorem dX2_endsRow_58 : decode cX2_endsRow 58 = .ok (.aload 4, 2) := dk_25 4 (dk_at dksX2_endsRow_2 13 rfl rfl)
theorem dX2_endsRow_60 : decode cX2_endsRow 60 = .ok (.invokestatic 165, 3) := dk_184 0 165 (dk_at dksX2_endsRow_2 15 rfl rfl)
theorem dX2_endsRow_63 : decode cX2_endsRow 63 = .ok (.putfield 169, 3) := dk_181 0 169 (dk_at dksX2_endsRow_2 18 rfl rfl)
theorem dX2_endsRow_66 : decode cX2_endsRow 66 = .ok (.return_, 1) := dk_177 (dk_at dksX2_endsRow_2 21 rfl rfl)
abbrev cX2_rowOf : ByteArray := prog_45_method_28_code
def yX2_rowOf : MethodName := ⟨RX2, "rowOf", "([LRowenTongueModel$Type;ILRowenTongueModel$Row;)LRowenTongueModel$Row;"⟩
def dkwX2_rowOf_1 : List UInt8 := [21, 4, 50, 45, 184, 0, 162, 167, 0, 4, 45, 78, 132, 4, 255, 167, 255, 223, 45, 176]
abbrev dktX2_rowOf_1 : List UInt8 := dkwX2_rowOf_1 ++ []
def dkwX2_rowOf_0 : List UInt8 := [44, 78, 16, 9, 54, 4, 21, 4, 155, 0, 34, 27, 21, 4, 122, 4, 126, 4, 160, 0, 16, 21, 4, 42]
abbrev dktX2_rowOf_0 : List UInt8 := dkwX2_rowOf_0 ++ dktX2_rowOf_1
theorem dksX2_rowOf_0 : cX2_rowOf.data.toList.drop 0 = dktX2_rowOf_0 := by decide +kernel
theorem dksX2_rowOf_1 : cX2_rowOf.data.toList.drop 24 = dktX2_rowOf_1 := dk_seg dksX2_rowOf_0 24 rfl rfl
theorem dX2_rowOf_0 : decode cX2_rowOf 0 = .ok (.aload_n 2, 1) := dk_44 (dk_at dksX2_rowOf_0 0 rfl rfl)
theorem dX2_rowOf_1 : decode cX2_rowOf 1 = .ok (.astore_n 3, 1) := dk_78 (dk_at dksX2_rowOf_0 1 rfl rfl)
theorem dX2_rowOf_2 : decode cX2_rowOf 2 = .ok (.bipush 9, 2) := dk_16 9 (dk_at dksX2_rowOf_0 2 rfl rfl)
theorem dX2_rowOf_4 : decode cX2_rowOf 4 = .ok (.istore 4, 2) := dk_54 4 (dk_at dksX2_rowOf_0 4 rfl rfl)
theorem dX2_rowOf_6 : decode cX2_rowOf 6 = .ok (.iload 4, 2) := dk_21 4 (dk_at dksX2_rowOf_0 6 rfl rfl)
theorem dX2_rowOf_8 : decode cX2_rowOf 8 = .ok (.ifCond .lt 34, 3) := dk_155 0 34 (dk_at dksX2_rowOf_0 8 rfl rfl)
theorem dX2_rowOf_11 : decode cX2_rowOf 11 = .ok (.iload_n 1, 1) := dk_27 (dk_at dksX2_rowOf_0 11 rfl rfl)
theorem dX2_rowOf_12 : decode cX2_rowOf 12 = .ok (.iload 4, 2) := dk_21 4 (dk_at dksX2_rowOf_0 12 rfl rfl)
theorem dX2_rowOf_14 : decode cX2_rowOf 14 = .ok (.ishr, 1) := dk_122 (dk_at dksX2_rowOf_0 14 rfl rfl)
theorem dX2_rowOf_15 : decode cX2_rowOf 15 = .ok (.iconst 1, 1) := dk_4 (dk_at dksX2_rowOf_0 15 rfl rfl)
theorem dX2_rowOf_16 : decode cX2_rowOf 16 = .ok (.iand, 1) := dk_126 (dk_at dksX2_rowOf_0 16 rfl rfl)
theorem dX2_rowOf_17 : decode cX2_rowOf 17 = .ok (.iconst 1, 1) := dk_4 (dk_at dksX2_rowOf_0 17 rfl rfl)
theorem dX2_rowOf_18 : decode cX2_rowOf 18 = .ok (.if_icmp .ne 16, 3) := dk_160 0 16 (dk_at dksX2_rowOf_0 18 rfl rfl)
theorem dX2_rowOf_21 : decode cX2_rowOf 21 = .ok (.iload 4, 2) := dk_21 4 (dk_at dksX2_rowOf_0 21 rfl rfl)
theorem dX2_rowOf_23 : decode cX2_rowOf 23 = .ok (.aload_n 0, 1) := dk_42 (dk_at dksX2_rowOf_0 23 rfl rfl)
theorem dX2_rowOf_24 : decode cX2_rowOf 24 = .ok (.iload 4, 2) := dk_21 4 (dk_at dksX2_rowOf_1 0 rfl rfl)
theorem dX2_rowOf_26 : decode cX2_rowOf 26 = .ok (.aaload, 1) := dk_50 (dk_at dksX2_rowOf_1 2 rfl rfl)
theorem dX2_rowOf_27 : decode cX2_rowOf 27 = .ok (.aload_n 3, 1) := dk_45 (dk_at dksX2_rowOf_1 3 rfl rfl)
theorem dX2_rowOf_28 : decode cX2_rowOf 28 = .ok (.invokestatic 162, 3) := dk_184 0 162 (dk_at dksX2_rowOf_1 4 rfl rfl)
theorem dX2_rowOf_31 : decode cX2_rowOf 31 = .ok (.goto 4, 3) := dk_167 0 4 (dk_at dksX2_rowOf_1 7 rfl rfl)
theorem dX2_rowOf_34 : decode cX2_rowOf 34 = .ok (.aload_n 3, 1) := dk_45 (dk_at dksX2_rowOf_1 10 rfl rfl)
theorem dX2_rowOf_35 : decode cX2_rowOf 35 = .ok (.astore_n 3, 1) := dk_78 (dk_at dksX2_rowOf_1 11 rfl rfl)
theorem dX2_rowOf_36 : decode cX2_rowOf 36 = .ok (.iinc 4 (-1), 3) := dk_132 4 255 (dk_at dksX2_rowOf_1 12 rfl rfl)
theorem dX2_rowOf_39 : decode cX2_rowOf 39 = .ok (.goto (-33), 3) := dk_167 255 223 (dk_at dksX2_rowOf_1 15 rfl rfl)
theorem dX2_rowOf_42 : decode cX2_rowOf 42 = .ok (.aload_n 3, 1) := dk_45 (dk_at dksX2_rowOf_1 18 rfl rfl)
theorem dX2_rowOf_43 : decode cX2_rowOf 43 = .ok (.areturn, 1) := dk_176 (dk_at dksX2_rowOf_1 19 rfl rfl)
abbrev cX2_comparesAll : ByteArray := prog_45_method_30_code
def yX2_comparesAll : MethodName := ⟨RX2, "comparesAll", "(Z[LRowenTongueModel$Type;I)V"⟩
def dkwX2_comparesAll_1 : List UInt8 := [4, 126, 4, 160, 0, 12, 44, 21, 6, 50, 22, 4, 184, 0, 139, 132, 6, 1, 167, 255, 223, 177]
abbrev dktX2_comparesAll_1 : List UInt8 := dkwX2_comparesAll_1 ++ []
def dkwX2_comparesAll_0 : List UInt8 := [42, 182, 0, 144, 55, 4, 3, 54, 6, 21, 6, 16, 10, 162, 0, 32, 27, 153, 0, 28, 29, 21, 6, 122]
abbrev dktX2_comparesAll_0 : List UInt8 := dkwX2_comparesAll_0 ++ dktX2_comparesAll_1
theorem dksX2_comparesAll_0 : cX2_comparesAll.data.toList.drop 0 = dktX2_comparesAll_0 := by decide +kernel
theorem dksX2_comparesAll_1 : cX2_comparesAll.data.toList.drop 24 = dktX2_comparesAll_1 := dk_seg dksX2_comparesAll_0 24 rfl rfl
theorem dX2_comparesAll_0 : decode cX2_comparesAll 0 = .ok (.aload_n 0, 1) := dk_42 (dk_at dksX2_comparesAll_0 0 rfl rfl)
theorem dX2_comparesAll_1 : decode cX2_comparesAll 1 = .ok (.invokevirtual 144, 3) := dk_182 0 144 (dk_at dksX2_comparesAll_0 1 rfl rfl)
theorem dX2_comparesAll_4 : decode cX2_comparesAll 4 = .ok (.lstore 4, 2) := dk_55 4 (dk_at dksX2_comparesAll_0 4 rfl rfl)
theorem dX2_comparesAll_6 : decode cX2_comparesAll 6 = .ok (.iconst 0, 1) := dk_3 (dk_at dksX2_comparesAll_0 6 rfl rfl)
theorem dX2_comparesAll_7 : decode cX2_comparesAll 7 = .ok (.istore 6, 2) := dk_54 6 (dk_at dksX2_comparesAll_0 7 rfl rfl)
theorem dX2_comparesAll_9 : decode cX2_comparesAll 9 = .ok (.iload 6, 2) := dk_21 6 (dk_at dksX2_comparesAll_0 9 rfl rfl)
theorem dX2_comparesAll_11 : decode cX2_comparesAll 11 = .ok (.bipush 10, 2) := dk_16 10 (dk_at dksX2_comparesAll_0 11 rfl rfl)
theorem dX2_comparesAll_13 : decode cX2_comparesAll 13 = .ok (.if_icmp .ge 32, 3) := dk_162 0 32 (dk_at dksX2_comparesAll_0 13 rfl rfl)
theorem dX2_comparesAll_16 : decode cX2_comparesAll 16 = .ok (.iload_n 1, 1) := dk_27 (dk_at dksX2_comparesAll_0 16 rfl rfl)
theorem dX2_comparesAll_17 : decode cX2_comparesAll 17 = .ok (.ifCond .eq 28, 3) := dk_153 0 28 (dk_at dksX2_comparesAll_0 17 rfl rfl)
theorem dX2_comparesAll_20 : decode cX2_comparesAll 20 = .ok (.iload_n 3, 1) := dk_29 (dk_at dksX2_comparesAll_0 20 rfl rfl)
theorem dX2_comparesAll_21 : decode cX2_comparesAll 21 = .ok (.iload 6, 2) := dk_21 6 (dk_at dksX2_comparesAll_0 21 rfl rfl)
theorem dX2_comparesAll_23 : decode cX2_comparesAll 23 = .ok (.ishr, 1) := dk_122 (dk_at dksX2_comparesAll_0 23 rfl rfl)
theorem dX2_comparesAll_24 : decode cX2_comparesAll 24 = .ok (.iconst 1, 1) := dk_4 (dk_at dksX2_comparesAll_1 0 rfl rfl)
theorem dX2_comparesAll_25 : decode cX2_comparesAll 25 = .ok (.iand, 1) := dk_126 (dk_at dksX2_comparesAll_1 1 rfl rfl)
theorem dX2_comparesAll_26 : decode cX2_comparesAll 26 = .ok (.iconst 1, 1) := dk_4 (dk_at dksX2_comparesAll_1 2 rfl rfl)
theorem dX2_comparesAll_27 : decode cX2_comparesAll 27 = .ok (.if_icmp .ne 12, 3) := dk_160 0 12 (dk_at dksX2_comparesAll_1 3 rfl rfl)
theorem dX2_comparesAll_30 : decode cX2_comparesAll 30 = .ok (.aload_n 2, 1) := dk_44 (dk_at dksX2_comparesAll_1 6 rfl rfl)
theorem dX2_comparesAll_31 : decode cX2_comparesAll 31 = .ok (.iload 6, 2) := dk_21 6 (dk_at dksX2_comparesAll_1 7 rfl rfl)
theorem dX2_comparesAll_33 : decode cX2_comparesAll 33 = .ok (.aaload, 1) := dk_50 (dk_at dksX2_comparesAll_1 9 rfl rfl)
theorem dX2_comparesAll_34 : decode cX2_comparesAll 34 = .ok (.lload 4, 2) := dk_22 4 (dk_at dksX2_comparesAll_1 10 rfl rfl)
theorem dX2_comparesAll_36 : decode cX2_comparesAll 36 = .ok (.invokestatic 139, 3) := dk_184 0 139 (dk_at dksX2_comparesAll_1 12 rfl rfl)
theorem dX2_comparesAll_39 : decode cX2_comparesAll 39 = .ok (.iinc 6 1, 3) := dk_132 6 1 (dk_at dksX2_comparesAll_1 15 rfl rfl)
theorem dX2_comparesAll_42 : decode cX2_comparesAll 42 = .ok (.goto (-33), 3) := dk_167 255 223 (dk_at dksX2_comparesAll_1 18 rfl rfl)
theorem dX2_comparesAll_45 : decode cX2_comparesAll 45 = .ok (.return_, 1) := dk_177 (dk_at dksX2_comparesAll_1 21 rfl rfl)
abbrev cX2_general : ByteArray := prog_45_method_33_code
def yX2_general : MethodName := ⟨RX2, "general", "(ILRowenTongueModel$Type;LRowenTongueModel$Known;)LRowenTongueModel$Known;"⟩
def dkwX2_general_9 : List UInt8 := [180, 0, 38, 27, 46, 164, 0, 8, 21, 11, 167, 0, 9, 42, 180, 0, 38, 27, 46, 79, 25, 4, 176]
abbrev dktX2_general_9 : List UInt8 := dkwX2_general_9 ++ []
def dkwX2_general_8 : List UInt8 := [180, 0, 95, 184, 0, 230, 96, 54, 11, 132, 12, 1, 167, 255, 203, 42, 180, 0, 38, 27, 21, 11, 42]
abbrev dktX2_general_8 : List UInt8 := dkwX2_general_8 ++ dktX2_general_9
def dkwX2_general_7 : List UInt8 := [182, 0, 223, 192, 0, 92, 182, 0, 191, 87, 21, 11, 25, 6, 21, 12, 182, 0, 223, 192, 0, 92]
abbrev dktX2_general_7 : List UInt8 := dkwX2_general_7 ++ dktX2_general_8
def dkwX2_general_6 : List UInt8 := [21, 10, 54, 12, 21, 12, 25, 6, 182, 0, 215, 162, 0, 49, 25, 4, 180, 0, 227, 25, 6, 21, 12]
abbrev dktX2_general_6 : List UInt8 := dkwX2_general_6 ++ dktX2_general_7
def dkwX2_general_5 : List UInt8 := [180, 0, 219, 25, 5, 21, 12, 182, 0, 223, 192, 0, 76, 182, 0, 191, 87, 132, 12, 1, 167, 255, 224]
abbrev dktX2_general_5 : List UInt8 := dkwX2_general_5 ++ dktX2_general_6
def dkwX2_general_4 : List UInt8 := [184, 0, 197, 3, 54, 11, 21, 9, 54, 12, 21, 12, 25, 5, 182, 0, 215, 162, 0, 28, 25, 4]
abbrev dktX2_general_4 : List UInt8 := dkwX2_general_4 ++ dktX2_general_5
def dkwX2_general_3 : List UInt8 := [167, 255, 230, 25, 5, 182, 0, 215, 54, 9, 25, 6, 182, 0, 215, 54, 10, 44, 25, 5, 25, 6, 22, 7]
abbrev dktX2_general_3 : List UInt8 := dkwX2_general_3 ++ dktX2_general_4
def dkwX2_general_2 : List UInt8 := [198, 0, 27, 25, 9, 180, 0, 210, 25, 5, 25, 6, 22, 7, 184, 0, 197, 25, 9, 180, 0, 211, 58, 9]
abbrev dktX2_general_2 : List UInt8 := dkwX2_general_2 ++ dktX2_general_3
def dkwX2_general_1 : List UInt8 := [58, 5, 187, 0, 192, 89, 183, 0, 209, 58, 6, 42, 182, 0, 144, 55, 7, 45, 58, 9, 25, 9]
abbrev dktX2_general_1 : List UInt8 := dkwX2_general_1 ++ dktX2_general_2
def dkwX2_general_0 : List UInt8 := [187, 0, 204, 89, 42, 180, 0, 13, 27, 46, 44, 45, 183, 0, 206, 58, 4, 187, 0, 192, 89, 183, 0, 209]
abbrev dktX2_general_0 : List UInt8 := dkwX2_general_0 ++ dktX2_general_1
theorem dksX2_general_0 : cX2_general.data.toList.drop 0 = dktX2_general_0 := by decide +kernel
theorem dksX2_general_1 : cX2_general.data.toList.drop 24 = dktX2_general_1 := dk_seg dksX2_general_0 24 rfl rfl
theorem dksX2_general_2 : cX2_general.data.toList.drop 46 = dktX2_general_2 := dk_seg dksX2_general_1 22 rfl rfl
theorem dksX2_general_3 : cX2_general.data.toList.drop 70 = dktX2_general_3 := dk_seg dksX2_general_2 24 rfl rfl
theorem dksX2_general_4 : cX2_general.data.toList.drop 94 = dktX2_general_4 := dk_seg dksX2_general_3 24 rfl rfl
theorem dksX2_general_5 : cX2_general.data.toList.drop 116 = dktX2_general_5 := dk_seg dksX2_general_4 22 rfl rfl
theorem dksX2_general_6 : cX2_general.data.toList.drop 139 = dktX2_general_6 := dk_seg dksX2_general_5 23 rfl rfl
theorem dksX2_general_7 : cX2_general.data.toList.drop 162 = dktX2_general_7 := dk_seg dksX2_general_6 23 rfl rfl
theorem dksX2_general_8 : cX2_general.data.toList.drop 184 = dktX2_general_8 := dk_seg dksX2_general_7 22 rfl rfl
theorem dksX2_general_9 : cX2_general.data.toList.drop 207 = dktX2_general_9 := dk_seg dksX2_general_8 23 rfl rfl
theorem dX2_general_0 : decode cX2_general 0 = .ok (.new 204, 3) := dk_187 0 204 (dk_at dksX2_general_0 0 rfl rfl)
theorem dX2_general_3 : decode cX2_general 3 = .ok (.dup, 1) := dk_89 (dk_at dksX2_general_0 3 rfl rfl)
theorem dX2_general_4 : decode cX2_general 4 = .ok (.aload_n 0, 1) := dk_42 (dk_at dksX2_general_0 4 rfl rfl)
theorem dX2_general_5 : decode cX2_general 5 = .ok (.getfield 13, 3) := dk_180 0 13 (dk_at dksX2_general_0 5 rfl rfl)
theorem dX2_general_8 : decode cX2_general 8 = .ok (.iload_n 1, 1) := dk_27 (dk_at dksX2_general_0 8 rfl rfl)
theorem dX2_general_9 : decode cX2_general 9 = .ok (.iaload, 1) := dk_46 (dk_at dksX2_general_0 9 rfl rfl)
theorem dX2_general_10 : decode cX2_general 10 = .ok (.aload_n 2, 1) := dk_44 (dk_at dksX2_general_0 10 rfl rfl)
theorem dX2_general_11 : decode cX2_general 11 = .ok (.aload_n 3, 1) := dk_45 (dk_at dksX2_general_0 11 rfl rfl)
theorem dX2_general_12 : decode cX2_general 12 = .ok (.invokespecial 206, 3) := dk_183 0 206 (dk_at dksX2_general_0 12 rfl rfl)
theorem dX2_general_15 : decode cX2_general 15 = .ok (.astore 4, 2) := dk_58 4 (dk_at dksX2_general_0 15 rfl rfl)
theorem dX2_general_17 : decode cX2_general 17 = .ok (.new 192, 3) := dk_187 0 192 (dk_at dksX2_general_0 17 rfl rfl)
theorem dX2_general_20 : decode cX2_general 20 = .ok (.dup, 1) := dk_89 (dk_at dksX2_general_0 20 rfl rfl)
theorem dX2_general_21 : decode cX2_general 21 = .ok (.invokespecial 209, 3) := dk_183 0 209 (dk_at dksX2_general_0 21 rfl rfl)
theorem dX2_general_24 : decode cX2_general 24 = .ok (.astore 5, 2) := dk_58 5 (dk_at dksX2_general_1 0 rfl rfl)
theorem dX2_general_26 : decode cX2_general 26 = .ok (.new 192, 3) := dk_187 0 192 (dk_at dksX2_general_1 2 rfl rfl)
theorem dX2_general_29 : decode cX2_general 29 = .ok (.dup, 1) := dk_89 (dk_at dksX2_general_1 5 rfl rfl)
theorem dX2_general_30 : decode cX2_general 30 = .ok (.invokespecial 209, 3) := dk_183 0 209 (dk_at dksX2_general_1 6 rfl rfl)
theorem dX2_general_33 : decode cX2_general 33 = .ok (.astore 6, 2) := dk_58 6 (dk_at dksX2_general_1 9 rfl rfl)
theorem dX2_general_35 : decode cX2_general 35 = .ok (.aload_n 0, 1) := dk_42 (dk_at dksX2_general_1 11 rfl rfl)
theorem dX2_general_36 : decode cX2_general 36 = .ok (.invokevirtual 144, 3) := dk_182 0 144 (dk_at dksX2_general_1 12 rfl rfl)
theorem dX2_general_39 : decode cX2_general 39 = .ok (.lstore 7, 2) := dk_55 7 (dk_at dksX2_general_1 15 rfl rfl)
theorem dX2_general_41 : decode cX2_general 41 = .ok (.aload_n 3, 1) := dk_45 (dk_at dksX2_general_1 17 rfl rfl)
theorem dX2_general_42 : decode cX2_general 42 = .ok (.astore 9, 2) := dk_58 9 (dk_at dksX2_general_1 18 rfl rfl)
theorem dX2_general_44 : decode cX2_general 44 = .ok (.aload 9, 2) := dk_25 9 (dk_at dksX2_general_1 20 rfl rfl)
theorem dX2_general_46 : decode cX2_general 46 = .ok (.ifnull 27, 3) := dk_198 0 27 (dk_at dksX2_general_2 0 rfl rfl)
theorem dX2_general_49 : decode cX2_general 49 = .ok (.aload 9, 2) := dk_25 9 (dk_at dksX2_general_2 3 rfl rfl)
theorem dX2_general_51 : decode cX2_general 51 = .ok (.getfield 210, 3) := dk_180 0 210 (dk_at dksX2_general_2 5 rfl rfl)
theorem dX2_general_54 : decode cX2_general 54 = .ok (.aload 5, 2) := dk_25 5 (dk_at dksX2_general_2 8 rfl rfl)
theorem dX2_general_56 : decode cX2_general 56 = .ok (.aload 6, 2) := dk_25 6 (dk_at dksX2_general_2 10 rfl rfl)
theorem dX2_general_58 : decode cX2_general 58 = .ok (.lload 7, 2) := dk_22 7 (dk_at dksX2_general_2 12 rfl rfl)
theorem dX2_general_60 : decode cX2_general 60 = .ok (.invokestatic 197, 3) := dk_184 0 197 (dk_at dksX2_general_2 14 rfl rfl)
theorem dX2_general_63 : decode cX2_general 63 = .ok (.aload 9, 2) := dk_25 9 (dk_at dksX2_general_2 17 rfl rfl)
theorem dX2_general_65 : decode cX2_general 65 = .ok (.getfield 211, 3) := dk_180 0 211 (dk_at dksX2_general_2 19 rfl rfl)
theorem dX2_general_68 : decode cX2_general 68 = .ok (.astore 9, 2) := dk_58 9 (dk_at dksX2_general_2 22 rfl rfl)
theorem dX2_general_70 : decode cX2_general 70 = .ok (.goto (-26), 3) := dk_167 255 230 (dk_at dksX2_general_3 0 rfl rfl)
theorem dX2_general_73 : decode cX2_general 73 = .ok (.aload 5, 2) := dk_25 5 (dk_at dksX2_general_3 3 rfl rfl)
theorem dX2_general_75 : decode cX2_general 75 = .ok (.invokevirtual 215, 3) := dk_182 0 215 (dk_at dksX2_general_3 5 rfl rfl)
theorem dX2_general_78 : decode cX2_general 78 = .ok (.istore 9, 2) := dk_54 9 (dk_at dksX2_general_3 8 rfl rfl)
theorem dX2_general_80 : decode cX2_general 80 = .ok (.aload 6, 2) := dk_25 6 (dk_at dksX2_general_3 10 rfl rfl)
theorem dX2_general_82 : decode cX2_general 82 = .ok (.invokevirtual 215, 3) := dk_182 0 215 (dk_at dksX2_general_3 12 rfl rfl)
theorem dX2_general_85 : decode cX2_general 85 = .ok (.istore 10, 2) := dk_54 10 (dk_at dksX2_general_3 15 rfl rfl)
theorem dX2_general_87 : decode cX2_general 87 = .ok (.aload_n 2, 1) := dk_44 (dk_at dksX2_general_3 17 rfl rfl)
theorem dX2_general_88 : decode cX2_general 88 = .ok (.aload 5, 2) := dk_25 5 (dk_at dksX2_general_3 18 rfl rfl)
theorem dX2_general_90 : decode cX2_general 90 = .ok (.aload 6, 2) := dk_25 6 (dk_at dksX2_general_3 20 rfl rfl)
theorem dX2_general_92 : decode cX2_general 92 = .ok (.lload 7, 2) := dk_22 7 (dk_at dksX2_general_3 22 rfl rfl)
theorem dX2_general_94 : decode cX2_general 94 = .ok (.invokestatic 197, 3) := dk_184 0 197 (dk_at dksX2_general_4 0 rfl rfl)
theorem dX2_general_97 : decode cX2_general 97 = .ok (.iconst 0, 1) := dk_3 (dk_at dksX2_general_4 3 rfl rfl)
theorem dX2_general_98 : decode cX2_general 98 = .ok (.istore 11, 2) := dk_54 11 (dk_at dksX2_general_4 4 rfl rfl)
theorem dX2_general_100 : decode cX2_general 100 = .ok (.iload 9, 2) := dk_21 9 (dk_at dksX2_general_4 6 rfl rfl)
theorem dX2_general_102 : decode cX2_general 102 = .ok (.istore 12, 2) := dk_54 12 (dk_at dksX2_general_4 8 rfl rfl)
theorem dX2_general_104 : decode cX2_general 104 = .ok (.iload 12, 2) := dk_21 12 (dk_at dksX2_general_4 10 rfl rfl)
theorem dX2_general_106 : decode cX2_general 106 = .ok (.aload 5, 2) := dk_25 5 (dk_at dksX2_general_4 12 rfl rfl)
theorem dX2_general_108 : decode cX2_general 108 = .ok (.invokevirtual 215, 3) := dk_182 0 215 (dk_at dksX2_general_4 14 rfl rfl)
theorem dX2_general_111 : decode cX2_general 111 = .ok (.if_icmp .ge 28, 3) := dk_162 0 28 (dk_at dksX2_general_4 17 rfl rfl)
theorem dX2_general_114 : decode cX2_general 114 = .ok (.aload 4, 2) := dk_25 4 (dk_at dksX2_general_4 20 rfl rfl)
theorem dX2_general_116 : decode cX2_general 116 = .ok (.getfield 219, 3) := dk_180 0 219 (dk_at dksX2_general_5 0 rfl rfl)
theorem dX2_general_119 : decode cX2_general 119 = .ok (.aload 5, 2) := dk_25 5 (dk_at dksX2_general_5 3 rfl rfl)
theorem dX2_general_121 : decode cX2_general 121 = .ok (.iload 12, 2) := dk_21 12 (dk_at dksX2_general_5 5 rfl rfl)
theorem dX2_general_123 : decode cX2_general 123 = .ok (.invokevirtual 223, 3) := dk_182 0 223 (dk_at dksX2_general_5 7 rfl rfl)
theorem dX2_general_126 : decode cX2_general 126 = .ok (.checkcast 76, 3) := dk_192 0 76 (dk_at dksX2_general_5 10 rfl rfl)
theorem dX2_general_129 : decode cX2_general 129 = .ok (.invokevirtual 191, 3) := dk_182 0 191 (dk_at dksX2_general_5 13 rfl rfl)
theorem dX2_general_132 : decode cX2_general 132 = .ok (.pop, 1) := dk_87 (dk_at dksX2_general_5 16 rfl rfl)
theorem dX2_general_133 : decode cX2_general 133 = .ok (.iinc 12 1, 3) := dk_132 12 1 (dk_at dksX2_general_5 17 rfl rfl)
theorem dX2_general_136 : decode cX2_general 136 = .ok (.goto (-32), 3) := dk_167 255 224 (dk_at dksX2_general_5 20 rfl rfl)
theorem dX2_general_139 : decode cX2_general 139 = .ok (.iload 10, 2) := dk_21 10 (dk_at dksX2_general_6 0 rfl rfl)
theorem dX2_general_141 : decode cX2_general 141 = .ok (.istore 12, 2) := dk_54 12 (dk_at dksX2_general_6 2 rfl rfl)
theorem dX2_general_143 : decode cX2_general 143 = .ok (.iload 12, 2) := dk_21 12 (dk_at dksX2_general_6 4 rfl rfl)
theorem dX2_general_145 : decode cX2_general 145 = .ok (.aload 6, 2) := dk_25 6 (dk_at dksX2_general_6 6 rfl rfl)
theorem dX2_general_147 : decode cX2_general 147 = .ok (.invokevirtual 215, 3) := dk_182 0 215 (dk_at dksX2_general_6 8 rfl rfl)
theorem dX2_general_150 : decode cX2_general 150 = .ok (.if_icmp .ge 49, 3) := dk_162 0 49 (dk_at dksX2_general_6 11 rfl rfl)
theorem dX2_general_153 : decode cX2_general 153 = .ok (.aload 4, 2) := dk_25 4 (dk_at dksX2_general_6 14 rfl rfl)
theorem dX2_general_155 : decode cX2_general 155 = .ok (.getfield 227, 3) := dk_180 0 227 (dk_at dksX2_general_6 16 rfl rfl)
theorem dX2_general_158 : decode cX2_general 158 = .ok (.aload 6, 2) := dk_25 6 (dk_at dksX2_general_6 19 rfl rfl)
theorem dX2_general_160 : decode cX2_general 160 = .ok (.iload 12, 2) := dk_21 12 (dk_at dksX2_general_6 21 rfl rfl)
theorem dX2_general_162 : decode cX2_general 162 = .ok (.invokevirtual 223, 3) := dk_182 0 223 (dk_at dksX2_general_7 0 rfl rfl)
theorem dX2_general_165 : decode cX2_general 165 = .ok (.checkcast 92, 3) := dk_192 0 92 (dk_at dksX2_general_7 3 rfl rfl)
theorem dX2_general_168 : decode cX2_general 168 = .ok (.invokevirtual 191, 3) := dk_182 0 191 (dk_at dksX2_general_7 6 rfl rfl)
theorem dX2_general_171 : decode cX2_general 171 = .ok (.pop, 1) := dk_87 (dk_at dksX2_general_7 9 rfl rfl)
theorem dX2_general_172 : decode cX2_general 172 = .ok (.iload 11, 2) := dk_21 11 (dk_at dksX2_general_7 10 rfl rfl)
theorem dX2_general_174 : decode cX2_general 174 = .ok (.aload 6, 2) := dk_25 6 (dk_at dksX2_general_7 12 rfl rfl)
theorem dX2_general_176 : decode cX2_general 176 = .ok (.iload 12, 2) := dk_21 12 (dk_at dksX2_general_7 14 rfl rfl)
theorem dX2_general_178 : decode cX2_general 178 = .ok (.invokevirtual 223, 3) := dk_182 0 223 (dk_at dksX2_general_7 16 rfl rfl)
theorem dX2_general_181 : decode cX2_general 181 = .ok (.checkcast 92, 3) := dk_192 0 92 (dk_at dksX2_general_7 19 rfl rfl)
theorem dX2_general_184 : decode cX2_general 184 = .ok (.getfield 95, 3) := dk_180 0 95 (dk_at dksX2_general_8 0 rfl rfl)
theorem dX2_general_187 : decode cX2_general 187 = .ok (.invokestatic 230, 3) := dk_184 0 230 (dk_at dksX2_general_8 3 rfl rfl)
theorem dX2_general_190 : decode cX2_general 190 = .ok (.iadd, 1) := dk_96 (dk_at dksX2_general_8 6 rfl rfl)
theorem dX2_general_191 : decode cX2_general 191 = .ok (.istore 11, 2) := dk_54 11 (dk_at dksX2_general_8 7 rfl rfl)
theorem dX2_general_193 : decode cX2_general 193 = .ok (.iinc 12 1, 3) := dk_132 12 1 (dk_at dksX2_general_8 9 rfl rfl)
theorem dX2_general_196 : decode cX2_general 196 = .ok (.goto (-53), 3) := dk_167 255 203 (dk_at dksX2_general_8 12 rfl rfl)
theorem dX2_general_199 : decode cX2_general 199 = .ok (.aload_n 0, 1) := dk_42 (dk_at dksX2_general_8 15 rfl rfl)
theorem dX2_general_200 : decode cX2_general 200 = .ok (.getfield 38, 3) := dk_180 0 38 (dk_at dksX2_general_8 16 rfl rfl)
theorem dX2_general_203 : decode cX2_general 203 = .ok (.iload_n 1, 1) := dk_27 (dk_at dksX2_general_8 19 rfl rfl)
theorem dX2_general_204 : decode cX2_general 204 = .ok (.iload 11, 2) := dk_21 11 (dk_at dksX2_general_8 20 rfl rfl)
theorem dX2_general_206 : decode cX2_general 206 = .ok (.aload_n 0, 1) := dk_42 (dk_at dksX2_general_8 22 rfl rfl)
theorem dX2_general_207 : decode cX2_general 207 = .ok (.getfield 38, 3) := dk_180 0 38 (dk_at dksX2_general_9 0 rfl rfl)
theorem dX2_general_210 : decode cX2_general 210 = .ok (.iload_n 1, 1) := dk_27 (dk_at dksX2_general_9 3 rfl rfl)
theorem dX2_general_211 : decode cX2_general 211 = .ok (.iaload, 1) := dk_46 (dk_at dksX2_general_9 4 rfl rfl)
theorem dX2_general_212 : decode cX2_general 212 = .ok (.if_icmp .le 8, 3) := dk_164 0 8 (dk_at dksX2_general_9 5 rfl rfl)
theorem dX2_general_215 : decode cX2_general 215 = .ok (.iload 11, 2) := dk_21 11 (dk_at dksX2_general_9 8 rfl rfl)
theorem dX2_general_217 : decode cX2_general 217 = .ok (.goto 9, 3) := dk_167 0 9 (dk_at dksX2_general_9 10 rfl rfl)
theorem dX2_general_220 : decode cX2_general 220 = .ok (.aload_n 0, 1) := dk_42 (dk_at dksX2_general_9 13 rfl rfl)
theorem dX2_general_221 : decode cX2_general 221 = .ok (.getfield 38, 3) := dk_180 0 38 (dk_at dksX2_general_9 14 rfl rfl)
theorem dX2_general_224 : decode cX2_general 224 = .ok (.iload_n 1, 1) := dk_27 (dk_at dksX2_general_9 17 rfl rfl)
theorem dX2_general_225 : decode cX2_general 225 = .ok (.iaload, 1) := dk_46 (dk_at dksX2_general_9 18 rfl rfl)
theorem dX2_general_226 : decode cX2_general 226 = .ok (.iastore, 1) := dk_79 (dk_at dksX2_general_9 19 rfl rfl)
theorem dX2_general_227 : decode cX2_general 227 = .ok (.aload 4, 2) := dk_25 4 (dk_at dksX2_general_9 20 rfl rfl)
theorem dX2_general_229 : decode cX2_general 229 = .ok (.areturn, 1) := dk_176 (dk_at dksX2_general_9 22 rfl rfl)
abbrev cX2_variables : ByteArray := prog_45_method_32_code
def yX2_variables : MethodName := ⟨RX2, "variables", "(LRowenTongueModel$Type;Ljava/util/ArrayList;Ljava/util/ArrayList;J)V"⟩
def dkwX2_variables_6 : List UInt8 := [182, 0, 201, 154, 0, 10, 44, 25, 6, 182, 0, 191, 87, 177]
abbrev dktX2_variables_6 : List UInt8 := dkwX2_variables_6 ++ []
def dkwX2_variables_5 : List UInt8 := [180, 0, 104, 182, 0, 128, 58, 6, 167, 255, 226, 25, 6, 180, 0, 131, 154, 0, 19, 44, 25, 6]
abbrev dktX2_variables_5 : List UInt8 := dkwX2_variables_5 ++ dktX2_variables_6
def dkwX2_variables_4 : List UInt8 := [58, 6, 25, 6, 180, 0, 131, 5, 160, 0, 27, 25, 6, 180, 0, 101, 43, 44, 33, 184, 0, 197, 25, 6]
abbrev dktX2_variables_4 : List UInt8 := dkwX2_variables_4 ++ dktX2_variables_5
def dkwX2_variables_3 : List UInt8 := [184, 0, 197, 167, 0, 79, 25, 5, 180, 0, 118, 4, 159, 0, 70, 25, 5, 180, 0, 88, 182, 0, 128]
abbrev dktX2_variables_3 : List UInt8 := dkwX2_variables_3 ++ dktX2_variables_4
def dkwX2_variables_2 : List UInt8 := [160, 0, 28, 25, 5, 180, 0, 81, 43, 44, 33, 184, 0, 197, 25, 5, 180, 0, 85, 43, 44, 33]
abbrev dktX2_variables_2 : List UInt8 := dkwX2_variables_2 ++ dktX2_variables_3
def dkwX2_variables_1 : List UInt8 := [25, 5, 180, 0, 118, 154, 0, 13, 43, 25, 5, 182, 0, 191, 87, 167, 0, 113, 25, 5, 180, 0, 118, 5]
abbrev dktX2_variables_1 : List UInt8 := dkwX2_variables_1 ++ dktX2_variables_2
def dkwX2_variables_0 : List UInt8 := [42, 182, 0, 111, 58, 5, 25, 5, 180, 0, 115, 33, 148, 154, 0, 4, 177, 25, 5, 33, 181, 0, 115]
abbrev dktX2_variables_0 : List UInt8 := dkwX2_variables_0 ++ dktX2_variables_1
theorem dksX2_variables_0 : cX2_variables.data.toList.drop 0 = dktX2_variables_0 := by decide +kernel
theorem dksX2_variables_1 : cX2_variables.data.toList.drop 23 = dktX2_variables_1 := dk_seg dksX2_variables_0 23 rfl rfl
theorem dksX2_variables_2 : cX2_variables.data.toList.drop 47 = dktX2_variables_2 := dk_seg dksX2_variables_1 24 rfl rfl
theorem dksX2_variables_3 : cX2_variables.data.toList.drop 69 = dktX2_variables_3 := dk_seg dksX2_variables_2 22 rfl rfl
theorem dksX2_variables_4 : cX2_variables.data.toList.drop 92 = dktX2_variables_4 := dk_seg dksX2_variables_3 23 rfl rfl
theorem dksX2_variables_5 : cX2_variables.data.toList.drop 116 = dktX2_variables_5 := dk_seg dksX2_variables_4 24 rfl rfl
theorem dksX2_variables_6 : cX2_variables.data.toList.drop 138 = dktX2_variables_6 := dk_seg dksX2_variables_5 22 rfl rfl
theorem dX2_variables_0 : decode cX2_variables 0 = .ok (.aload_n 0, 1) := dk_42 (dk_at dksX2_variables_0 0 rfl rfl)
theorem dX2_variables_1 : decode cX2_variables 1 = .ok (.invokevirtual 111, 3) := dk_182 0 111 (dk_at dksX2_variables_0 1 rfl rfl)
theorem dX2_variables_4 : decode cX2_variables 4 = .ok (.astore 5, 2) := dk_58 5 (dk_at dksX2_variables_0 4 rfl rfl)
theorem dX2_variables_6 : decode cX2_variables 6 = .ok (.aload 5, 2) := dk_25 5 (dk_at dksX2_variables_0 6 rfl rfl)
theorem dX2_variables_8 : decode cX2_variables 8 = .ok (.getfield 115, 3) := dk_180 0 115 (dk_at dksX2_variables_0 8 rfl rfl)
theorem dX2_variables_11 : decode cX2_variables 11 = .ok (.lload_n 3, 1) := dk_33 (dk_at dksX2_variables_0 11 rfl rfl)
theorem dX2_variables_12 : decode cX2_variables 12 = .ok (.lcmp, 1) := dk_148 (dk_at dksX2_variables_0 12 rfl rfl)
theorem dX2_variables_13 : decode cX2_variables 13 = .ok (.ifCond .ne 4, 3) := dk_154 0 4 (dk_at dksX2_variables_0 13 rfl rfl)
theorem dX2_variables_16 : decode cX2_variables 16 = .ok (.return_, 1) := dk_177 (dk_at dksX2_variables_0 16 rfl rfl)
theorem dX2_variables_17 : decode cX2_variables 17 = .ok (.aload 5, 2) := dk_25 5 (dk_at dksX2_variables_0 17 rfl rfl)
theorem dX2_variables_19 : decode cX2_variables 19 = .ok (.lload_n 3, 1) := dk_33 (dk_at dksX2_variables_0 19 rfl rfl)
theorem dX2_variables_20 : decode cX2_variables 20 = .ok (.putfield 115, 3) := dk_181 0 115 (dk_at dksX2_variables_0 20 rfl rfl)
theorem dX2_variables_23 : decode cX2_variables 23 = .ok (.aload 5, 2) := dk_25 5 (dk_at dksX2_variables_1 0 rfl rfl)
theorem dX2_variables_25 : decode cX2_variables 25 = .ok (.getfield 118, 3) := dk_180 0 118 (dk_at dksX2_variables_1 2 rfl rfl)
theorem dX2_variables_28 : decode cX2_variables 28 = .ok (.ifCond .ne 13, 3) := dk_154 0 13 (dk_at dksX2_variables_1 5 rfl rfl)
theorem dX2_variables_31 : decode cX2_variables 31 = .ok (.aload_n 1, 1) := dk_43 (dk_at dksX2_variables_1 8 rfl rfl)
theorem dX2_variables_32 : decode cX2_variables 32 = .ok (.aload 5, 2) := dk_25 5 (dk_at dksX2_variables_1 9 rfl rfl)
theorem dX2_variables_34 : decode cX2_variables 34 = .ok (.invokevirtual 191, 3) := dk_182 0 191 (dk_at dksX2_variables_1 11 rfl rfl)
theorem dX2_variables_37 : decode cX2_variables 37 = .ok (.pop, 1) := dk_87 (dk_at dksX2_variables_1 14 rfl rfl)
theorem dX2_variables_38 : decode cX2_variables 38 = .ok (.goto 113, 3) := dk_167 0 113 (dk_at dksX2_variables_1 15 rfl rfl)
theorem dX2_variables_41 : decode cX2_variables 41 = .ok (.aload 5, 2) := dk_25 5 (dk_at dksX2_variables_1 18 rfl rfl)
theorem dX2_variables_43 : decode cX2_variables 43 = .ok (.getfield 118, 3) := dk_180 0 118 (dk_at dksX2_variables_1 20 rfl rfl)
theorem dX2_variables_46 : decode cX2_variables 46 = .ok (.iconst 2, 1) := dk_5 (dk_at dksX2_variables_1 23 rfl rfl)
theorem dX2_variables_47 : decode cX2_variables 47 = .ok (.if_icmp .ne 28, 3) := dk_160 0 28 (dk_at dksX2_variables_2 0 rfl rfl)
theorem dX2_variables_50 : decode cX2_variables 50 = .ok (.aload 5, 2) := dk_25 5 (dk_at dksX2_variables_2 3 rfl rfl)
theorem dX2_variables_52 : decode cX2_variables 52 = .ok (.getfield 81, 3) := dk_180 0 81 (dk_at dksX2_variables_2 5 rfl rfl)
theorem dX2_variables_55 : decode cX2_variables 55 = .ok (.aload_n 1, 1) := dk_43 (dk_at dksX2_variables_2 8 rfl rfl)
theorem dX2_variables_56 : decode cX2_variables 56 = .ok (.aload_n 2, 1) := dk_44 (dk_at dksX2_variables_2 9 rfl rfl)
theorem dX2_variables_57 : decode cX2_variables 57 = .ok (.lload_n 3, 1) := dk_33 (dk_at dksX2_variables_2 10 rfl rfl)
theorem dX2_variables_58 : decode cX2_variables 58 = .ok (.invokestatic 197, 3) := dk_184 0 197 (dk_at dksX2_variables_2 11 rfl rfl)
theorem dX2_variables_61 : decode cX2_variables 61 = .ok (.aload 5, 2) := dk_25 5 (dk_at dksX2_variables_2 14 rfl rfl)
theorem dX2_variables_63 : decode cX2_variables 63 = .ok (.getfield 85, 3) := dk_180 0 85 (dk_at dksX2_variables_2 16 rfl rfl)
theorem dX2_variables_66 : decode cX2_variables 66 = .ok (.aload_n 1, 1) := dk_43 (dk_at dksX2_variables_2 19 rfl rfl)
theorem dX2_variables_67 : decode cX2_variables 67 = .ok (.aload_n 2, 1) := dk_44 (dk_at dksX2_variables_2 20 rfl rfl)
theorem dX2_variables_68 : decode cX2_variables 68 = .ok (.lload_n 3, 1) := dk_33 (dk_at dksX2_variables_2 21 rfl rfl)
theorem dX2_variables_69 : decode cX2_variables 69 = .ok (.invokestatic 197, 3) := dk_184 0 197 (dk_at dksX2_variables_3 0 rfl rfl)
theorem dX2_variables_72 : decode cX2_variables 72 = .ok (.goto 79, 3) := dk_167 0 79 (dk_at dksX2_variables_3 3 rfl rfl)
theorem dX2_variables_75 : decode cX2_variables 75 = .ok (.aload 5, 2) := dk_25 5 (dk_at dksX2_variables_3 6 rfl rfl)
theorem dX2_variables_77 : decode cX2_variables 77 = .ok (.getfield 118, 3) := dk_180 0 118 (dk_at dksX2_variables_3 8 rfl rfl)
theorem dX2_variables_80 : decode cX2_variables 80 = .ok (.iconst 1, 1) := dk_4 (dk_at dksX2_variables_3 11 rfl rfl)
theorem dX2_variables_81 : decode cX2_variables 81 = .ok (.if_icmp .eq 70, 3) := dk_159 0 70 (dk_at dksX2_variables_3 12 rfl rfl)
theorem dX2_variables_84 : decode cX2_variables 84 = .ok (.aload 5, 2) := dk_25 5 (dk_at dksX2_variables_3 15 rfl rfl)
theorem dX2_variables_86 : decode cX2_variables 86 = .ok (.getfield 88, 3) := dk_180 0 88 (dk_at dksX2_variables_3 17 rfl rfl)
theorem dX2_variables_89 : decode cX2_variables 89 = .ok (.invokevirtual 128, 3) := dk_182 0 128 (dk_at dksX2_variables_3 20 rfl rfl)
theorem dX2_variables_92 : decode cX2_variables 92 = .ok (.astore 6, 2) := dk_58 6 (dk_at dksX2_variables_4 0 rfl rfl)
theorem dX2_variables_94 : decode cX2_variables 94 = .ok (.aload 6, 2) := dk_25 6 (dk_at dksX2_variables_4 2 rfl rfl)
theorem dX2_variables_96 : decode cX2_variables 96 = .ok (.getfield 131, 3) := dk_180 0 131 (dk_at dksX2_variables_4 4 rfl rfl)
theorem dX2_variables_99 : decode cX2_variables 99 = .ok (.iconst 2, 1) := dk_5 (dk_at dksX2_variables_4 7 rfl rfl)
theorem dX2_variables_100 : decode cX2_variables 100 = .ok (.if_icmp .ne 27, 3) := dk_160 0 27 (dk_at dksX2_variables_4 8 rfl rfl)
theorem dX2_variables_103 : decode cX2_variables 103 = .ok (.aload 6, 2) := dk_25 6 (dk_at dksX2_variables_4 11 rfl rfl)
theorem dX2_variables_105 : decode cX2_variables 105 = .ok (.getfield 101, 3) := dk_180 0 101 (dk_at dksX2_variables_4 13 rfl rfl)
theorem dX2_variables_108 : decode cX2_variables 108 = .ok (.aload_n 1, 1) := dk_43 (dk_at dksX2_variables_4 16 rfl rfl)
theorem dX2_variables_109 : decode cX2_variables 109 = .ok (.aload_n 2, 1) := dk_44 (dk_at dksX2_variables_4 17 rfl rfl)
theorem dX2_variables_110 : decode cX2_variables 110 = .ok (.lload_n 3, 1) := dk_33 (dk_at dksX2_variables_4 18 rfl rfl)
theorem dX2_variables_111 : decode cX2_variables 111 = .ok (.invokestatic 197, 3) := dk_184 0 197 (dk_at dksX2_variables_4 19 rfl rfl)
theorem dX2_variables_114 : decode cX2_variables 114 = .ok (.aload 6, 2) := dk_25 6 (dk_at dksX2_variables_4 22 rfl rfl)
theorem dX2_variables_116 : decode cX2_variables 116 = .ok (.getfield 104, 3) := dk_180 0 104 (dk_at dksX2_variables_5 0 rfl rfl)
theorem dX2_variables_119 : decode cX2_variables 119 = .ok (.invokevirtual 128, 3) := dk_182 0 128 (dk_at dksX2_variables_5 3 rfl rfl)
theorem dX2_variables_122 : decode cX2_variables 122 = .ok (.astore 6, 2) := dk_58 6 (dk_at dksX2_variables_5 6 rfl rfl)
theorem dX2_variables_124 : decode cX2_variables 124 = .ok (.goto (-30), 3) := dk_167 255 226 (dk_at dksX2_variables_5 8 rfl rfl)
theorem dX2_variables_127 : decode cX2_variables 127 = .ok (.aload 6, 2) := dk_25 6 (dk_at dksX2_variables_5 11 rfl rfl)
theorem dX2_variables_129 : decode cX2_variables 129 = .ok (.getfield 131, 3) := dk_180 0 131 (dk_at dksX2_variables_5 13 rfl rfl)
theorem dX2_variables_132 : decode cX2_variables 132 = .ok (.ifCond .ne 19, 3) := dk_154 0 19 (dk_at dksX2_variables_5 16 rfl rfl)
theorem dX2_variables_135 : decode cX2_variables 135 = .ok (.aload_n 2, 1) := dk_44 (dk_at dksX2_variables_5 19 rfl rfl)
theorem dX2_variables_136 : decode cX2_variables 136 = .ok (.aload 6, 2) := dk_25 6 (dk_at dksX2_variables_5 20 rfl rfl)
theorem dX2_variables_138 : decode cX2_variables 138 = .ok (.invokevirtual 201, 3) := dk_182 0 201 (dk_at dksX2_variables_6 0 rfl rfl)
theorem dX2_variables_141 : decode cX2_variables 141 = .ok (.ifCond .ne 10, 3) := dk_154 0 10 (dk_at dksX2_variables_6 3 rfl rfl)
theorem dX2_variables_144 : decode cX2_variables 144 = .ok (.aload_n 2, 1) := dk_44 (dk_at dksX2_variables_6 6 rfl rfl)
theorem dX2_variables_145 : decode cX2_variables 145 = .ok (.aload 6, 2) := dk_25 6 (dk_at dksX2_variables_6 7 rfl rfl)
theorem dX2_variables_147 : decode cX2_variables 147 = .ok (.invokevirtual 191, 3) := dk_182 0 191 (dk_at dksX2_variables_6 9 rfl rfl)
theorem dX2_variables_150 : decode cX2_variables 150 = .ok (.pop, 1) := dk_87 (dk_at dksX2_variables_6 12 rfl rfl)
theorem dX2_variables_151 : decode cX2_variables 151 = .ok (.return_, 1) := dk_177 (dk_at dksX2_variables_6 13 rfl rfl)
abbrev cX2_foundMatch : ByteArray := prog_45_method_39_code
def yX2_foundMatch : MethodName := ⟨RX2, "foundMatch", "(ILRowenTongueModel$Known;)LRowenTongueModel$Type;"⟩
def dkwX2_foundMatch_14 : List UInt8 := [25, 8, 176]
abbrev dktX2_foundMatch_14 : List UInt8 := dkwX2_foundMatch_14 ++ []
def dkwX2_foundMatch_13 : List UInt8 := [182, 0, 155, 21, 9, 154, 0, 6, 25, 8, 176, 42, 180, 0, 19, 21, 6, 46, 54, 6, 167, 255, 117]
abbrev dktX2_foundMatch_13 : List UInt8 := dkwX2_foundMatch_13 ++ dktX2_foundMatch_14
def dkwX2_foundMatch_12 : List UInt8 := [46, 25, 10, 44, 183, 0, 206, 182, 1, 15, 58, 11, 42, 21, 6, 181, 1, 9, 42, 25, 11, 25, 8]
abbrev dktX2_foundMatch_12 : List UInt8 := dkwX2_foundMatch_12 ++ dktX2_foundMatch_13
def dkwX2_foundMatch_11 : List UInt8 := [21, 9, 153, 0, 16, 42, 180, 0, 13, 21, 6, 46, 16, 10, 112, 167, 0, 10, 42, 180, 0, 13, 21, 6]
abbrev dktX2_foundMatch_11 : List UInt8 := dkwX2_foundMatch_11 ++ dktX2_foundMatch_12
def dkwX2_foundMatch_10 : List UInt8 := [167, 0, 9, 7, 25, 7, 184, 0, 250, 58, 10, 42, 42, 180, 0, 16, 21, 6, 46, 187, 0, 204, 89]
abbrev dktX2_foundMatch_10 : List UInt8 := dkwX2_foundMatch_10 ++ dktX2_foundMatch_11
def dkwX2_foundMatch_9 : List UInt8 := [167, 0, 4, 3, 54, 9, 21, 9, 153, 0, 19, 25, 4, 42, 180, 0, 13, 21, 6, 46, 16, 10, 108, 50]
abbrev dktX2_foundMatch_9 : List UInt8 := dkwX2_foundMatch_9 ++ dktX2_foundMatch_10
def dkwX2_foundMatch_8 : List UInt8 := [180, 0, 7, 21, 6, 46, 16, 15, 159, 0, 133, 42, 180, 0, 7, 21, 6, 46, 16, 17, 160, 0, 7, 4]
abbrev dktX2_foundMatch_8 : List UInt8 := dkwX2_foundMatch_8 ++ dktX2_foundMatch_9
def dkwX2_foundMatch_7 : List UInt8 := [182, 0, 155, 187, 0, 76, 89, 3, 183, 0, 78, 58, 8, 42, 180, 0, 19, 27, 46, 54, 6, 42]
abbrev dktX2_foundMatch_7 : List UInt8 := dkwX2_foundMatch_7 ++ dktX2_foundMatch_8
def dkwX2_foundMatch_6 : List UInt8 := [58, 7, 42, 27, 181, 1, 9, 42, 45, 7, 25, 4, 21, 5, 25, 7, 184, 0, 165, 184, 0, 250]
abbrev dktX2_foundMatch_6 : List UInt8 := dkwX2_foundMatch_6 ++ dktX2_foundMatch_7
def dkwX2_foundMatch_5 : List UInt8 := [21, 6, 46, 16, 15, 160, 0, 14, 187, 0, 92, 89, 4, 183, 0, 94, 167, 0, 8, 21, 5, 184, 0, 179]
abbrev dktX2_foundMatch_5 : List UInt8 := dkwX2_foundMatch_5 ++ dktX2_foundMatch_6
def dkwX2_foundMatch_4 : List UInt8 := [4, 21, 7, 120, 128, 54, 5, 42, 180, 0, 19, 21, 6, 46, 54, 6, 167, 255, 178, 42, 180, 0, 7]
abbrev dktX2_foundMatch_4 : List UInt8 := dkwX2_foundMatch_4 ++ dktX2_foundMatch_5
def dkwX2_foundMatch_3 : List UInt8 := [187, 0, 132, 89, 7, 183, 0, 134, 191, 25, 4, 21, 7, 187, 0, 76, 89, 3, 183, 0, 78, 83, 21, 5]
abbrev dktX2_foundMatch_3 : List UInt8 := dkwX2_foundMatch_3 ++ dktX2_foundMatch_4
def dkwX2_foundMatch_2 : List UInt8 := [21, 6, 46, 16, 10, 108, 54, 7, 42, 21, 6, 181, 1, 9, 25, 4, 21, 7, 50, 198, 0, 12]
abbrev dktX2_foundMatch_2 : List UInt8 := dkwX2_foundMatch_2 ++ dktX2_foundMatch_3
def dkwX2_foundMatch_1 : List UInt8 := [180, 0, 19, 27, 46, 54, 6, 42, 180, 0, 7, 21, 6, 46, 16, 17, 160, 0, 72, 42, 180, 0, 13]
abbrev dktX2_foundMatch_1 : List UInt8 := dkwX2_foundMatch_1 ++ dktX2_foundMatch_2
def dkwX2_foundMatch_0 : List UInt8 := [42, 42, 180, 0, 16, 27, 46, 44, 182, 1, 15, 78, 16, 10, 189, 0, 76, 58, 4, 3, 54, 5, 42]
abbrev dktX2_foundMatch_0 : List UInt8 := dkwX2_foundMatch_0 ++ dktX2_foundMatch_1
theorem dksX2_foundMatch_0 : cX2_foundMatch.data.toList.drop 0 = dktX2_foundMatch_0 := by decide +kernel
theorem dksX2_foundMatch_1 : cX2_foundMatch.data.toList.drop 23 = dktX2_foundMatch_1 := dk_seg dksX2_foundMatch_0 23 rfl rfl
theorem dksX2_foundMatch_2 : cX2_foundMatch.data.toList.drop 46 = dktX2_foundMatch_2 := dk_seg dksX2_foundMatch_1 23 rfl rfl
theorem dksX2_foundMatch_3 : cX2_foundMatch.data.toList.drop 68 = dktX2_foundMatch_3 := dk_seg dksX2_foundMatch_2 22 rfl rfl
theorem dksX2_foundMatch_4 : cX2_foundMatch.data.toList.drop 92 = dktX2_foundMatch_4 := dk_seg dksX2_foundMatch_3 24 rfl rfl
theorem dksX2_foundMatch_5 : cX2_foundMatch.data.toList.drop 115 = dktX2_foundMatch_5 := dk_seg dksX2_foundMatch_4 23 rfl rfl
theorem dksX2_foundMatch_6 : cX2_foundMatch.data.toList.drop 139 = dktX2_foundMatch_6 := dk_seg dksX2_foundMatch_5 24 rfl rfl
theorem dksX2_foundMatch_7 : cX2_foundMatch.data.toList.drop 161 = dktX2_foundMatch_7 := dk_seg dksX2_foundMatch_6 22 rfl rfl
theorem dksX2_foundMatch_8 : cX2_foundMatch.data.toList.drop 183 = dktX2_foundMatch_8 := dk_seg dksX2_foundMatch_7 22 rfl rfl
theorem dksX2_foundMatch_9 : cX2_foundMatch.data.toList.drop 207 = dktX2_foundMatch_9 := dk_seg dksX2_foundMatch_8 24 rfl rfl
theorem dksX2_foundMatch_10 : cX2_foundMatch.data.toList.drop 231 = dktX2_foundMatch_10 := dk_seg dksX2_foundMatch_9 24 rfl rfl
theorem dksX2_foundMatch_11 : cX2_foundMatch.data.toList.drop 254 = dktX2_foundMatch_11 := dk_seg dksX2_foundMatch_10 23 rfl rfl
theorem dksX2_foundMatch_12 : cX2_foundMatch.data.toList.drop 278 = dktX2_foundMatch_12 := dk_seg dksX2_foundMatch_11 24 rfl rfl
theorem dksX2_foundMatch_13 : cX2_foundMatch.data.toList.drop 301 = dktX2_foundMatch_13 := dk_seg dksX2_foundMatch_12 23 rfl rfl
theorem dksX2_foundMatch_14 : cX2_foundMatch.data.toList.drop 324 = dktX2_foundMatch_14 := dk_seg dksX2_foundMatch_13 23 rfl rfl
theorem dX2_foundMatch_0 : decode cX2_foundMatch 0 = .ok (.aload_n 0, 1) := dk_42 (dk_at dksX2_foundMatch_0 0 rfl rfl)
theorem dX2_foundMatch_1 : decode cX2_foundMatch 1 = .ok (.aload_n 0, 1) := dk_42 (dk_at dksX2_foundMatch_0 1 rfl rfl)
theorem dX2_foundMatch_2 : decode cX2_foundMatch 2 = .ok (.getfield 16, 3) := dk_180 0 16 (dk_at dksX2_foundMatch_0 2 rfl rfl)
theorem dX2_foundMatch_5 : decode cX2_foundMatch 5 = .ok (.iload_n 1, 1) := dk_27 (dk_at dksX2_foundMatch_0 5 rfl rfl)
theorem dX2_foundMatch_6 : decode cX2_foundMatch 6 = .ok (.iaload, 1) := dk_46 (dk_at dksX2_foundMatch_0 6 rfl rfl)
theorem dX2_foundMatch_7 : decode cX2_foundMatch 7 = .ok (.aload_n 2, 1) := dk_44 (dk_at dksX2_foundMatch_0 7 rfl rfl)
theorem dX2_foundMatch_8 : decode cX2_foundMatch 8 = .ok (.invokevirtual 271, 3) := dk_182 1 15 (dk_at dksX2_foundMatch_0 8 rfl rfl)
theorem dX2_foundMatch_11 : decode cX2_foundMatch 11 = .ok (.astore_n 3, 1) := dk_78 (dk_at dksX2_foundMatch_0 11 rfl rfl)
theorem dX2_foundMatch_12 : decode cX2_foundMatch 12 = .ok (.bipush 10, 2) := dk_16 10 (dk_at dksX2_foundMatch_0 12 rfl rfl)
theorem dX2_foundMatch_14 : decode cX2_foundMatch 14 = .ok (.anewarray 76, 3) := dk_189 0 76 (dk_at dksX2_foundMatch_0 14 rfl rfl)
theorem dX2_foundMatch_17 : decode cX2_foundMatch 17 = .ok (.astore 4, 2) := dk_58 4 (dk_at dksX2_foundMatch_0 17 rfl rfl)
theorem dX2_foundMatch_19 : decode cX2_foundMatch 19 = .ok (.iconst 0, 1) := dk_3 (dk_at dksX2_foundMatch_0 19 rfl rfl)
theorem dX2_foundMatch_20 : decode cX2_foundMatch 20 = .ok (.istore 5, 2) := dk_54 5 (dk_at dksX2_foundMatch_0 20 rfl rfl)
theorem dX2_foundMatch_22 : decode cX2_foundMatch 22 = .ok (.aload_n 0, 1) := dk_42 (dk_at dksX2_foundMatch_0 22 rfl rfl)
theorem dX2_foundMatch_23 : decode cX2_foundMatch 23 = .ok (.getfield 19, 3) := dk_180 0 19 (dk_at dksX2_foundMatch_1 0 rfl rfl)
theorem dX2_foundMatch_26 : decode cX2_foundMatch 26 = .ok (.iload_n 1, 1) := dk_27 (dk_at dksX2_foundMatch_1 3 rfl rfl)
theorem dX2_foundMatch_27 : decode cX2_foundMatch 27 = .ok (.iaload, 1) := dk_46 (dk_at dksX2_foundMatch_1 4 rfl rfl)
theorem dX2_foundMatch_28 : decode cX2_foundMatch 28 = .ok (.istore 6, 2) := dk_54 6 (dk_at dksX2_foundMatch_1 5 rfl rfl)
theorem dX2_foundMatch_30 : decode cX2_foundMatch 30 = .ok (.aload_n 0, 1) := dk_42 (dk_at dksX2_foundMatch_1 7 rfl rfl)
theorem dX2_foundMatch_31 : decode cX2_foundMatch 31 = .ok (.getfield 7, 3) := dk_180 0 7 (dk_at dksX2_foundMatch_1 8 rfl rfl)
theorem dX2_foundMatch_34 : decode cX2_foundMatch 34 = .ok (.iload 6, 2) := dk_21 6 (dk_at dksX2_foundMatch_1 11 rfl rfl)
theorem dX2_foundMatch_36 : decode cX2_foundMatch 36 = .ok (.iaload, 1) := dk_46 (dk_at dksX2_foundMatch_1 13 rfl rfl)
theorem dX2_foundMatch_37 : decode cX2_foundMatch 37 = .ok (.bipush 17, 2) := dk_16 17 (dk_at dksX2_foundMatch_1 14 rfl rfl)
theorem dX2_foundMatch_39 : decode cX2_foundMatch 39 = .ok (.if_icmp .ne 72, 3) := dk_160 0 72 (dk_at dksX2_foundMatch_1 16 rfl rfl)
theorem dX2_foundMatch_42 : decode cX2_foundMatch 42 = .ok (.aload_n 0, 1) := dk_42 (dk_at dksX2_foundMatch_1 19 rfl rfl)
theorem dX2_foundMatch_43 : decode cX2_foundMatch 43 = .ok (.getfield 13, 3) := dk_180 0 13 (dk_at dksX2_foundMatch_1 20 rfl rfl)
theorem dX2_foundMatch_46 : decode cX2_foundMatch 46 = .ok (.iload 6, 2) := dk_21 6 (dk_at dksX2_foundMatch_2 0 rfl rfl)
theorem dX2_foundMatch_48 : decode cX2_foundMatch 48 = .ok (.iaload, 1) := dk_46 (dk_at dksX2_foundMatch_2 2 rfl rfl)
theorem dX2_foundMatch_49 : decode cX2_foundMatch 49 = .ok (.bipush 10, 2) := dk_16 10 (dk_at dksX2_foundMatch_2 3 rfl rfl)
theorem dX2_foundMatch_51 : decode cX2_foundMatch 51 = .ok (.idiv, 1) := dk_108 (dk_at dksX2_foundMatch_2 5 rfl rfl)
theorem dX2_foundMatch_52 : decode cX2_foundMatch 52 = .ok (.istore 7, 2) := dk_54 7 (dk_at dksX2_foundMatch_2 6 rfl rfl)
theorem dX2_foundMatch_54 : decode cX2_foundMatch 54 = .ok (.aload_n 0, 1) := dk_42 (dk_at dksX2_foundMatch_2 8 rfl rfl)
theorem dX2_foundMatch_55 : decode cX2_foundMatch 55 = .ok (.iload 6, 2) := dk_21 6 (dk_at dksX2_foundMatch_2 9 rfl rfl)
theorem dX2_foundMatch_57 : decode cX2_foundMatch 57 = .ok (.putfield 265, 3) := dk_181 1 9 (dk_at dksX2_foundMatch_2 11 rfl rfl)
theorem dX2_foundMatch_60 : decode cX2_foundMatch 60 = .ok (.aload 4, 2) := dk_25 4 (dk_at dksX2_foundMatch_2 14 rfl rfl)
theorem dX2_foundMatch_62 : decode cX2_foundMatch 62 = .ok (.iload 7, 2) := dk_21 7 (dk_at dksX2_foundMatch_2 16 rfl rfl)
theorem dX2_foundMatch_64 : decode cX2_foundMatch 64 = .ok (.aaload, 1) := dk_50 (dk_at dksX2_foundMatch_2 18 rfl rfl)
theorem dX2_foundMatch_65 : decode cX2_foundMatch 65 = .ok (.ifnull 12, 3) := dk_198 0 12 (dk_at dksX2_foundMatch_2 19 rfl rfl)
theorem dX2_foundMatch_68 : decode cX2_foundMatch 68 = .ok (.new 132, 3) := dk_187 0 132 (dk_at dksX2_foundMatch_3 0 rfl rfl)
theorem dX2_foundMatch_71 : decode cX2_foundMatch 71 = .ok (.dup, 1) := dk_89 (dk_at dksX2_foundMatch_3 3 rfl rfl)
theorem dX2_foundMatch_72 : decode cX2_foundMatch 72 = .ok (.iconst 4, 1) := dk_7 (dk_at dksX2_foundMatch_3 4 rfl rfl)
theorem dX2_foundMatch_73 : decode cX2_foundMatch 73 = .ok (.invokespecial 134, 3) := dk_183 0 134 (dk_at dksX2_foundMatch_3 5 rfl rfl)
theorem dX2_foundMatch_76 : decode cX2_foundMatch 76 = .ok (.athrow, 1) := dk_191 (dk_at dksX2_foundMatch_3 8 rfl rfl)
theorem dX2_foundMatch_77 : decode cX2_foundMatch 77 = .ok (.aload 4, 2) := dk_25 4 (dk_at dksX2_foundMatch_3 9 rfl rfl)
theorem dX2_foundMatch_79 : decode cX2_foundMatch 79 = .ok (.iload 7, 2) := dk_21 7 (dk_at dksX2_foundMatch_3 11 rfl rfl)
theorem dX2_foundMatch_81 : decode cX2_foundMatch 81 = .ok (.new 76, 3) := dk_187 0 76 (dk_at dksX2_foundMatch_3 13 rfl rfl)
theorem dX2_foundMatch_84 : decode cX2_foundMatch 84 = .ok (.dup, 1) := dk_89 (dk_at dksX2_foundMatch_3 16 rfl rfl)
theorem dX2_foundMatch_85 : decode cX2_foundMatch 85 = .ok (.iconst 0, 1) := dk_3 (dk_at dksX2_foundMatch_3 17 rfl rfl)
theorem dX2_foundMatch_86 : decode cX2_foundMatch 86 = .ok (.invokespecial 78, 3) := dk_183 0 78 (dk_at dksX2_foundMatch_3 18 rfl rfl)
theorem dX2_foundMatch_89 : decode cX2_foundMatch 89 = .ok (.aastore, 1) := dk_83 (dk_at dksX2_foundMatch_3 21 rfl rfl)
theorem dX2_foundMatch_90 : decode cX2_foundMatch 90 = .ok (.iload 5, 2) := dk_21 5 (dk_at dksX2_foundMatch_3 22 rfl rfl)
theorem dX2_foundMatch_92 : decode cX2_foundMatch 92 = .ok (.iconst 1, 1) := dk_4 (dk_at dksX2_foundMatch_4 0 rfl rfl)
theorem dX2_foundMatch_93 : decode cX2_foundMatch 93 = .ok (.iload 7, 2) := dk_21 7 (dk_at dksX2_foundMatch_4 1 rfl rfl)
theorem dX2_foundMatch_95 : decode cX2_foundMatch 95 = .ok (.ishl, 1) := dk_120 (dk_at dksX2_foundMatch_4 3 rfl rfl)
theorem dX2_foundMatch_96 : decode cX2_foundMatch 96 = .ok (.ior, 1) := dk_128 (dk_at dksX2_foundMatch_4 4 rfl rfl)
theorem dX2_foundMatch_97 : decode cX2_foundMatch 97 = .ok (.istore 5, 2) := dk_54 5 (dk_at dksX2_foundMatch_4 5 rfl rfl)
theorem dX2_foundMatch_99 : decode cX2_foundMatch 99 = .ok (.aload_n 0, 1) := dk_42 (dk_at dksX2_foundMatch_4 7 rfl rfl)
theorem dX2_foundMatch_100 : decode cX2_foundMatch 100 = .ok (.getfield 19, 3) := dk_180 0 19 (dk_at dksX2_foundMatch_4 8 rfl rfl)
theorem dX2_foundMatch_103 : decode cX2_foundMatch 103 = .ok (.iload 6, 2) := dk_21 6 (dk_at dksX2_foundMatch_4 11 rfl rfl)
theorem dX2_foundMatch_105 : decode cX2_foundMatch 105 = .ok (.iaload, 1) := dk_46 (dk_at dksX2_foundMatch_4 13 rfl rfl)
theorem dX2_foundMatch_106 : decode cX2_foundMatch 106 = .ok (.istore 6, 2) := dk_54 6 (dk_at dksX2_foundMatch_4 14 rfl rfl)
theorem dX2_foundMatch_108 : decode cX2_foundMatch 108 = .ok (.goto (-78), 3) := dk_167 255 178 (dk_at dksX2_foundMatch_4 16 rfl rfl)
theorem dX2_foundMatch_111 : decode cX2_foundMatch 111 = .ok (.aload_n 0, 1) := dk_42 (dk_at dksX2_foundMatch_4 19 rfl rfl)
theorem dX2_foundMatch_112 : decode cX2_foundMatch 112 = .ok (.getfield 7, 3) := dk_180 0 7 (dk_at dksX2_foundMatch_4 20 rfl rfl)
theorem dX2_foundMatch_115 : decode cX2_foundMatch 115 = .ok (.iload 6, 2) := dk_21 6 (dk_at dksX2_foundMatch_5 0 rfl rfl)
theorem dX2_foundMatch_117 : decode cX2_foundMatch 117 = .ok (.iaload, 1) := dk_46 (dk_at dksX2_foundMatch_5 2 rfl rfl)
theorem dX2_foundMatch_118 : decode cX2_foundMatch 118 = .ok (.bipush 15, 2) := dk_16 15 (dk_at dksX2_foundMatch_5 3 rfl rfl)
theorem dX2_foundMatch_120 : decode cX2_foundMatch 120 = .ok (.if_icmp .ne 14, 3) := dk_160 0 14 (dk_at dksX2_foundMatch_5 5 rfl rfl)
theorem dX2_foundMatch_123 : decode cX2_foundMatch 123 = .ok (.new 92, 3) := dk_187 0 92 (dk_at dksX2_foundMatch_5 8 rfl rfl)
theorem dX2_foundMatch_126 : decode cX2_foundMatch 126 = .ok (.dup, 1) := dk_89 (dk_at dksX2_foundMatch_5 11 rfl rfl)
theorem dX2_foundMatch_127 : decode cX2_foundMatch 127 = .ok (.iconst 1, 1) := dk_4 (dk_at dksX2_foundMatch_5 12 rfl rfl)
theorem dX2_foundMatch_128 : decode cX2_foundMatch 128 = .ok (.invokespecial 94, 3) := dk_183 0 94 (dk_at dksX2_foundMatch_5 13 rfl rfl)
theorem dX2_foundMatch_131 : decode cX2_foundMatch 131 = .ok (.goto 8, 3) := dk_167 0 8 (dk_at dksX2_foundMatch_5 16 rfl rfl)
theorem dX2_foundMatch_134 : decode cX2_foundMatch 134 = .ok (.iload 5, 2) := dk_21 5 (dk_at dksX2_foundMatch_5 19 rfl rfl)
theorem dX2_foundMatch_136 : decode cX2_foundMatch 136 = .ok (.invokestatic 179, 3) := dk_184 0 179 (dk_at dksX2_foundMatch_5 21 rfl rfl)
theorem dX2_foundMatch_139 : decode cX2_foundMatch 139 = .ok (.astore 7, 2) := dk_58 7 (dk_at dksX2_foundMatch_6 0 rfl rfl)
theorem dX2_foundMatch_141 : decode cX2_foundMatch 141 = .ok (.aload_n 0, 1) := dk_42 (dk_at dksX2_foundMatch_6 2 rfl rfl)
theorem dX2_foundMatch_142 : decode cX2_foundMatch 142 = .ok (.iload_n 1, 1) := dk_27 (dk_at dksX2_foundMatch_6 3 rfl rfl)
theorem dX2_foundMatch_143 : decode cX2_foundMatch 143 = .ok (.putfield 265, 3) := dk_181 1 9 (dk_at dksX2_foundMatch_6 4 rfl rfl)
theorem dX2_foundMatch_146 : decode cX2_foundMatch 146 = .ok (.aload_n 0, 1) := dk_42 (dk_at dksX2_foundMatch_6 7 rfl rfl)
theorem dX2_foundMatch_147 : decode cX2_foundMatch 147 = .ok (.aload_n 3, 1) := dk_45 (dk_at dksX2_foundMatch_6 8 rfl rfl)
theorem dX2_foundMatch_148 : decode cX2_foundMatch 148 = .ok (.iconst 4, 1) := dk_7 (dk_at dksX2_foundMatch_6 9 rfl rfl)
theorem dX2_foundMatch_149 : decode cX2_foundMatch 149 = .ok (.aload 4, 2) := dk_25 4 (dk_at dksX2_foundMatch_6 10 rfl rfl)
theorem dX2_foundMatch_151 : decode cX2_foundMatch 151 = .ok (.iload 5, 2) := dk_21 5 (dk_at dksX2_foundMatch_6 12 rfl rfl)
theorem dX2_foundMatch_153 : decode cX2_foundMatch 153 = .ok (.aload 7, 2) := dk_25 7 (dk_at dksX2_foundMatch_6 14 rfl rfl)
theorem dX2_foundMatch_155 : decode cX2_foundMatch 155 = .ok (.invokestatic 165, 3) := dk_184 0 165 (dk_at dksX2_foundMatch_6 16 rfl rfl)
theorem dX2_foundMatch_158 : decode cX2_foundMatch 158 = .ok (.invokestatic 250, 3) := dk_184 0 250 (dk_at dksX2_foundMatch_6 19 rfl rfl)
theorem dX2_foundMatch_161 : decode cX2_foundMatch 161 = .ok (.invokevirtual 155, 3) := dk_182 0 155 (dk_at dksX2_foundMatch_7 0 rfl rfl)
theorem dX2_foundMatch_164 : decode cX2_foundMatch 164 = .ok (.new 76, 3) := dk_187 0 76 (dk_at dksX2_foundMatch_7 3 rfl rfl)
theorem dX2_foundMatch_167 : decode cX2_foundMatch 167 = .ok (.dup, 1) := dk_89 (dk_at dksX2_foundMatch_7 6 rfl rfl)
theorem dX2_foundMatch_168 : decode cX2_foundMatch 168 = .ok (.iconst 0, 1) := dk_3 (dk_at dksX2_foundMatch_7 7 rfl rfl)
theorem dX2_foundMatch_169 : decode cX2_foundMatch 169 = .ok (.invokespecial 78, 3) := dk_183 0 78 (dk_at dksX2_foundMatch_7 8 rfl rfl)
theorem dX2_foundMatch_172 : decode cX2_foundMatch 172 = .ok (.astore 8, 2) := dk_58 8 (dk_at dksX2_foundMatch_7 11 rfl rfl)
theorem dX2_foundMatch_174 : decode cX2_foundMatch 174 = .ok (.aload_n 0, 1) := dk_42 (dk_at dksX2_foundMatch_7 13 rfl rfl)
theorem dX2_foundMatch_175 : decode cX2_foundMatch 175 = .ok (.getfield 19, 3) := dk_180 0 19 (dk_at dksX2_foundMatch_7 14 rfl rfl)
theorem dX2_foundMatch_178 : decode cX2_foundMatch 178 = .ok (.iload_n 1, 1) := dk_27 (dk_at dksX2_foundMatch_7 17 rfl rfl)
theorem dX2_foundMatch_179 : decode cX2_foundMatch 179 = .ok (.iaload, 1) := dk_46 (dk_at dksX2_foundMatch_7 18 rfl rfl)
theorem dX2_foundMatch_180 : decode cX2_foundMatch 180 = .ok (.istore 6, 2) := dk_54 6 (dk_at dksX2_foundMatch_7 19 rfl rfl)
theorem dX2_foundMatch_182 : decode cX2_foundMatch 182 = .ok (.aload_n 0, 1) := dk_42 (dk_at dksX2_foundMatch_7 21 rfl rfl)
theorem dX2_foundMatch_183 : decode cX2_foundMatch 183 = .ok (.getfield 7, 3) := dk_180 0 7 (dk_at dksX2_foundMatch_8 0 rfl rfl)
theorem dX2_foundMatch_186 : decode cX2_foundMatch 186 = .ok (.iload 6, 2) := dk_21 6 (dk_at dksX2_foundMatch_8 3 rfl rfl)
theorem dX2_foundMatch_188 : decode cX2_foundMatch 188 = .ok (.iaload, 1) := dk_46 (dk_at dksX2_foundMatch_8 5 rfl rfl)
theorem dX2_foundMatch_189 : decode cX2_foundMatch 189 = .ok (.bipush 15, 2) := dk_16 15 (dk_at dksX2_foundMatch_8 6 rfl rfl)
theorem dX2_foundMatch_191 : decode cX2_foundMatch 191 = .ok (.if_icmp .eq 133, 3) := dk_159 0 133 (dk_at dksX2_foundMatch_8 8 rfl rfl)
theorem dX2_foundMatch_194 : decode cX2_foundMatch 194 = .ok (.aload_n 0, 1) := dk_42 (dk_at dksX2_foundMatch_8 11 rfl rfl)
theorem dX2_foundMatch_195 : decode cX2_foundMatch 195 = .ok (.getfield 7, 3) := dk_180 0 7 (dk_at dksX2_foundMatch_8 12 rfl rfl)
theorem dX2_foundMatch_198 : decode cX2_foundMatch 198 = .ok (.iload 6, 2) := dk_21 6 (dk_at dksX2_foundMatch_8 15 rfl rfl)
theorem dX2_foundMatch_200 : decode cX2_foundMatch 200 = .ok (.iaload, 1) := dk_46 (dk_at dksX2_foundMatch_8 17 rfl rfl)
theorem dX2_foundMatch_201 : decode cX2_foundMatch 201 = .ok (.bipush 17, 2) := dk_16 17 (dk_at dksX2_foundMatch_8 18 rfl rfl)
theorem dX2_foundMatch_203 : decode cX2_foundMatch 203 = .ok (.if_icmp .ne 7, 3) := dk_160 0 7 (dk_at dksX2_foundMatch_8 20 rfl rfl)
theorem dX2_foundMatch_206 : decode cX2_foundMatch 206 = .ok (.iconst 1, 1) := dk_4 (dk_at dksX2_foundMatch_8 23 rfl rfl)
theorem dX2_foundMatch_207 : decode cX2_foundMatch 207 = .ok (.goto 4, 3) := dk_167 0 4 (dk_at dksX2_foundMatch_9 0 rfl rfl)
theorem dX2_foundMatch_210 : decode cX2_foundMatch 210 = .ok (.iconst 0, 1) := dk_3 (dk_at dksX2_foundMatch_9 3 rfl rfl)
theorem dX2_foundMatch_211 : decode cX2_foundMatch 211 = .ok (.istore 9, 2) := dk_54 9 (dk_at dksX2_foundMatch_9 4 rfl rfl)
theorem dX2_foundMatch_213 : decode cX2_foundMatch 213 = .ok (.iload 9, 2) := dk_21 9 (dk_at dksX2_foundMatch_9 6 rfl rfl)
theorem dX2_foundMatch_215 : decode cX2_foundMatch 215 = .ok (.ifCond .eq 19, 3) := dk_153 0 19 (dk_at dksX2_foundMatch_9 8 rfl rfl)
theorem dX2_foundMatch_218 : decode cX2_foundMatch 218 = .ok (.aload 4, 2) := dk_25 4 (dk_at dksX2_foundMatch_9 11 rfl rfl)
theorem dX2_foundMatch_220 : decode cX2_foundMatch 220 = .ok (.aload_n 0, 1) := dk_42 (dk_at dksX2_foundMatch_9 13 rfl rfl)
theorem dX2_foundMatch_221 : decode cX2_foundMatch 221 = .ok (.getfield 13, 3) := dk_180 0 13 (dk_at dksX2_foundMatch_9 14 rfl rfl)
theorem dX2_foundMatch_224 : decode cX2_foundMatch 224 = .ok (.iload 6, 2) := dk_21 6 (dk_at dksX2_foundMatch_9 17 rfl rfl)
theorem dX2_foundMatch_226 : decode cX2_foundMatch 226 = .ok (.iaload, 1) := dk_46 (dk_at dksX2_foundMatch_9 19 rfl rfl)
theorem dX2_foundMatch_227 : decode cX2_foundMatch 227 = .ok (.bipush 10, 2) := dk_16 10 (dk_at dksX2_foundMatch_9 20 rfl rfl)
theorem dX2_foundMatch_229 : decode cX2_foundMatch 229 = .ok (.idiv, 1) := dk_108 (dk_at dksX2_foundMatch_9 22 rfl rfl)
theorem dX2_foundMatch_230 : decode cX2_foundMatch 230 = .ok (.aaload, 1) := dk_50 (dk_at dksX2_foundMatch_9 23 rfl rfl)
theorem dX2_foundMatch_231 : decode cX2_foundMatch 231 = .ok (.goto 9, 3) := dk_167 0 9 (dk_at dksX2_foundMatch_10 0 rfl rfl)
theorem dX2_foundMatch_234 : decode cX2_foundMatch 234 = .ok (.iconst 4, 1) := dk_7 (dk_at dksX2_foundMatch_10 3 rfl rfl)
theorem dX2_foundMatch_235 : decode cX2_foundMatch 235 = .ok (.aload 7, 2) := dk_25 7 (dk_at dksX2_foundMatch_10 4 rfl rfl)
theorem dX2_foundMatch_237 : decode cX2_foundMatch 237 = .ok (.invokestatic 250, 3) := dk_184 0 250 (dk_at dksX2_foundMatch_10 6 rfl rfl)
theorem dX2_foundMatch_240 : decode cX2_foundMatch 240 = .ok (.astore 10, 2) := dk_58 10 (dk_at dksX2_foundMatch_10 9 rfl rfl)
theorem dX2_foundMatch_242 : decode cX2_foundMatch 242 = .ok (.aload_n 0, 1) := dk_42 (dk_at dksX2_foundMatch_10 11 rfl rfl)
theorem dX2_foundMatch_243 : decode cX2_foundMatch 243 = .ok (.aload_n 0, 1) := dk_42 (dk_at dksX2_foundMatch_10 12 rfl rfl)
theorem dX2_foundMatch_244 : decode cX2_foundMatch 244 = .ok (.getfield 16, 3) := dk_180 0 16 (dk_at dksX2_foundMatch_10 13 rfl rfl)
theorem dX2_foundMatch_247 : decode cX2_foundMatch 247 = .ok (.iload 6, 2) := dk_21 6 (dk_at dksX2_foundMatch_10 16 rfl rfl)
theorem dX2_foundMatch_249 : decode cX2_foundMatch 249 = .ok (.iaload, 1) := dk_46 (dk_at dksX2_foundMatch_10 18 rfl rfl)
theorem dX2_foundMatch_250 : decode cX2_foundMatch 250 = .ok (.new 204, 3) := dk_187 0 204 (dk_at dksX2_foundMatch_10 19 rfl rfl)
theorem dX2_foundMatch_253 : decode cX2_foundMatch 253 = .ok (.dup, 1) := dk_89 (dk_at dksX2_foundMatch_10 22 rfl rfl)
theorem dX2_foundMatch_254 : decode cX2_foundMatch 254 = .ok (.iload 9, 2) := dk_21 9 (dk_at dksX2_foundMatch_11 0 rfl rfl)
theorem dX2_foundMatch_256 : decode cX2_foundMatch 256 = .ok (.ifCond .eq 16, 3) := dk_153 0 16 (dk_at dksX2_foundMatch_11 2 rfl rfl)
theorem dX2_foundMatch_259 : decode cX2_foundMatch 259 = .ok (.aload_n 0, 1) := dk_42 (dk_at dksX2_foundMatch_11 5 rfl rfl)
theorem dX2_foundMatch_260 : decode cX2_foundMatch 260 = .ok (.getfield 13, 3) := dk_180 0 13 (dk_at dksX2_foundMatch_11 6 rfl rfl)
theorem dX2_foundMatch_263 : decode cX2_foundMatch 263 = .ok (.iload 6, 2) := dk_21 6 (dk_at dksX2_foundMatch_11 9 rfl rfl)
theorem dX2_foundMatch_265 : decode cX2_foundMatch 265 = .ok (.iaload, 1) := dk_46 (dk_at dksX2_foundMatch_11 11 rfl rfl)
theorem dX2_foundMatch_266 : decode cX2_foundMatch 266 = .ok (.bipush 10, 2) := dk_16 10 (dk_at dksX2_foundMatch_11 12 rfl rfl)
theorem dX2_foundMatch_268 : decode cX2_foundMatch 268 = .ok (.irem, 1) := dk_112 (dk_at dksX2_foundMatch_11 14 rfl rfl)
theorem dX2_foundMatch_269 : decode cX2_foundMatch 269 = .ok (.goto 10, 3) := dk_167 0 10 (dk_at dksX2_foundMatch_11 15 rfl rfl)
theorem dX2_foundMatch_272 : decode cX2_foundMatch 272 = .ok (.aload_n 0, 1) := dk_42 (dk_at dksX2_foundMatch_11 18 rfl rfl)
theorem dX2_foundMatch_273 : decode cX2_foundMatch 273 = .ok (.getfield 13, 3) := dk_180 0 13 (dk_at dksX2_foundMatch_11 19 rfl rfl)
theorem dX2_foundMatch_276 : decode cX2_foundMatch 276 = .ok (.iload 6, 2) := dk_21 6 (dk_at dksX2_foundMatch_11 22 rfl rfl)
theorem dX2_foundMatch_278 : decode cX2_foundMatch 278 = .ok (.iaload, 1) := dk_46 (dk_at dksX2_foundMatch_12 0 rfl rfl)
theorem dX2_foundMatch_279 : decode cX2_foundMatch 279 = .ok (.aload 10, 2) := dk_25 10 (dk_at dksX2_foundMatch_12 1 rfl rfl)
theorem dX2_foundMatch_281 : decode cX2_foundMatch 281 = .ok (.aload_n 2, 1) := dk_44 (dk_at dksX2_foundMatch_12 3 rfl rfl)
theorem dX2_foundMatch_282 : decode cX2_foundMatch 282 = .ok (.invokespecial 206, 3) := dk_183 0 206 (dk_at dksX2_foundMatch_12 4 rfl rfl)
theorem dX2_foundMatch_285 : decode cX2_foundMatch 285 = .ok (.invokevirtual 271, 3) := dk_182 1 15 (dk_at dksX2_foundMatch_12 7 rfl rfl)
theorem dX2_foundMatch_288 : decode cX2_foundMatch 288 = .ok (.astore 11, 2) := dk_58 11 (dk_at dksX2_foundMatch_12 10 rfl rfl)
theorem dX2_foundMatch_290 : decode cX2_foundMatch 290 = .ok (.aload_n 0, 1) := dk_42 (dk_at dksX2_foundMatch_12 12 rfl rfl)
theorem dX2_foundMatch_291 : decode cX2_foundMatch 291 = .ok (.iload 6, 2) := dk_21 6 (dk_at dksX2_foundMatch_12 13 rfl rfl)
theorem dX2_foundMatch_293 : decode cX2_foundMatch 293 = .ok (.putfield 265, 3) := dk_181 1 9 (dk_at dksX2_foundMatch_12 15 rfl rfl)
theorem dX2_foundMatch_296 : decode cX2_foundMatch 296 = .ok (.aload_n 0, 1) := dk_42 (dk_at dksX2_foundMatch_12 18 rfl rfl)
theorem dX2_foundMatch_297 : decode cX2_foundMatch 297 = .ok (.aload 11, 2) := dk_25 11 (dk_at dksX2_foundMatch_12 19 rfl rfl)
theorem dX2_foundMatch_299 : decode cX2_foundMatch 299 = .ok (.aload 8, 2) := dk_25 8 (dk_at dksX2_foundMatch_12 21 rfl rfl)
theorem dX2_foundMatch_301 : decode cX2_foundMatch 301 = .ok (.invokevirtual 155, 3) := dk_182 0 155 (dk_at dksX2_foundMatch_13 0 rfl rfl)
theorem dX2_foundMatch_304 : decode cX2_foundMatch 304 = .ok (.iload 9, 2) := dk_21 9 (dk_at dksX2_foundMatch_13 3 rfl rfl)
theorem dX2_foundMatch_306 : decode cX2_foundMatch 306 = .ok (.ifCond .ne 6, 3) := dk_154 0 6 (dk_at dksX2_foundMatch_13 5 rfl rfl)
theorem dX2_foundMatch_309 : decode cX2_foundMatch 309 = .ok (.aload 8, 2) := dk_25 8 (dk_at dksX2_foundMatch_13 8 rfl rfl)
theorem dX2_foundMatch_311 : decode cX2_foundMatch 311 = .ok (.areturn, 1) := dk_176 (dk_at dksX2_foundMatch_13 10 rfl rfl)
theorem dX2_foundMatch_312 : decode cX2_foundMatch 312 = .ok (.aload_n 0, 1) := dk_42 (dk_at dksX2_foundMatch_13 11 rfl rfl)
theorem dX2_foundMatch_313 : decode cX2_foundMatch 313 = .ok (.getfield 19, 3) := dk_180 0 19 (dk_at dksX2_foundMatch_13 12 rfl rfl)
theorem dX2_foundMatch_316 : decode cX2_foundMatch 316 = .ok (.iload 6, 2) := dk_21 6 (dk_at dksX2_foundMatch_13 15 rfl rfl)
theorem dX2_foundMatch_318 : decode cX2_foundMatch 318 = .ok (.iaload, 1) := dk_46 (dk_at dksX2_foundMatch_13 17 rfl rfl)
theorem dX2_foundMatch_319 : decode cX2_foundMatch 319 = .ok (.istore 6, 2) := dk_54 6 (dk_at dksX2_foundMatch_13 18 rfl rfl)
theorem dX2_foundMatch_321 : decode cX2_foundMatch 321 = .ok (.goto (-139), 3) := dk_167 255 117 (dk_at dksX2_foundMatch_13 20 rfl rfl)
theorem dX2_foundMatch_324 : decode cX2_foundMatch 324 = .ok (.aload 8, 2) := dk_25 8 (dk_at dksX2_foundMatch_14 0 rfl rfl)
theorem dX2_foundMatch_326 : decode cX2_foundMatch 326 = .ok (.areturn, 1) := dk_176 (dk_at dksX2_foundMatch_14 2 rfl rfl)
abbrev cX2_foundRecord : ByteArray := prog_45_method_38_code
def yX2_foundRecord : MethodName := ⟨RX2, "foundRecord", "(ILRowenTongueModel$Known;)LRowenTongueModel$Type;"⟩
def dkwX2_foundRecord_8 : List UInt8 := [184, 0, 250, 176]
abbrev dktX2_foundRecord_8 : List UInt8 := dkwX2_foundRecord_8 ++ []
def dkwX2_foundRecord_7 : List UInt8 := [182, 0, 155, 42, 180, 0, 7, 27, 46, 16, 8, 160, 0, 8, 25, 6, 167, 0, 9, 6, 25, 5]
abbrev dktX2_foundRecord_7 : List UInt8 := dkwX2_foundRecord_7 ++ dktX2_foundRecord_8
def dkwX2_foundRecord_6 : List UInt8 := [58, 6, 42, 27, 181, 1, 9, 42, 25, 4, 6, 29, 25, 6, 25, 5, 184, 0, 162, 184, 0, 250]
abbrev dktX2_foundRecord_6 : List UInt8 := dkwX2_foundRecord_6 ++ dktX2_foundRecord_7
def dkwX2_foundRecord_5 : List UInt8 := [182, 0, 155, 6, 29, 25, 4, 25, 5, 184, 0, 162, 184, 0, 250, 176, 187, 0, 76, 89, 3, 183, 0, 78]
abbrev dktX2_foundRecord_5 : List UInt8 := dkwX2_foundRecord_5 ++ dktX2_foundRecord_6
def dkwX2_foundRecord_4 : List UInt8 := [27, 46, 44, 182, 1, 15, 58, 6, 42, 27, 181, 1, 9, 42, 25, 6, 6, 25, 5, 184, 0, 250]
abbrev dktX2_foundRecord_4 : List UInt8 := dkwX2_foundRecord_4 ++ dktX2_foundRecord_5
def dkwX2_foundRecord_3 : List UInt8 := [4, 29, 120, 184, 0, 179, 58, 5, 42, 180, 0, 7, 27, 46, 16, 7, 160, 0, 46, 42, 42, 180, 0, 19]
abbrev dktX2_foundRecord_3 : List UInt8 := dkwX2_foundRecord_3 ++ dktX2_foundRecord_4
def dkwX2_foundRecord_2 : List UInt8 := [27, 46, 16, 10, 160, 0, 20, 7, 29, 25, 4, 4, 29, 120, 184, 0, 179, 184, 0, 162, 184, 0, 250, 176]
abbrev dktX2_foundRecord_2 : List UInt8 := dkwX2_foundRecord_2 ++ dktX2_foundRecord_3
def dkwX2_foundRecord_1 : List UInt8 := [42, 180, 0, 13, 27, 46, 62, 42, 42, 180, 0, 16, 27, 46, 44, 182, 1, 15, 58, 4, 42, 180, 0, 7]
abbrev dktX2_foundRecord_1 : List UInt8 := dkwX2_foundRecord_1 ++ dktX2_foundRecord_2
def dkwX2_foundRecord_0 : List UInt8 := [42, 180, 0, 7, 27, 46, 16, 6, 160, 0, 16, 6, 187, 0, 92, 89, 4, 183, 0, 94, 184, 0, 250, 176]
abbrev dktX2_foundRecord_0 : List UInt8 := dkwX2_foundRecord_0 ++ dktX2_foundRecord_1
theorem dksX2_foundRecord_0 : cX2_foundRecord.data.toList.drop 0 = dktX2_foundRecord_0 := by decide +kernel
theorem dksX2_foundRecord_1 : cX2_foundRecord.data.toList.drop 24 = dktX2_foundRecord_1 := dk_seg dksX2_foundRecord_0 24 rfl rfl
theorem dksX2_foundRecord_2 : cX2_foundRecord.data.toList.drop 48 = dktX2_foundRecord_2 := dk_seg dksX2_foundRecord_1 24 rfl rfl
theorem dksX2_foundRecord_3 : cX2_foundRecord.data.toList.drop 72 = dktX2_foundRecord_3 := dk_seg dksX2_foundRecord_2 24 rfl rfl
theorem dksX2_foundRecord_4 : cX2_foundRecord.data.toList.drop 96 = dktX2_foundRecord_4 := dk_seg dksX2_foundRecord_3 24 rfl rfl
theorem dksX2_foundRecord_5 : cX2_foundRecord.data.toList.drop 118 = dktX2_foundRecord_5 := dk_seg dksX2_foundRecord_4 22 rfl rfl
theorem dksX2_foundRecord_6 : cX2_foundRecord.data.toList.drop 142 = dktX2_foundRecord_6 := dk_seg dksX2_foundRecord_5 24 rfl rfl
theorem dksX2_foundRecord_7 : cX2_foundRecord.data.toList.drop 164 = dktX2_foundRecord_7 := dk_seg dksX2_foundRecord_6 22 rfl rfl
theorem dksX2_foundRecord_8 : cX2_foundRecord.data.toList.drop 186 = dktX2_foundRecord_8 := dk_seg dksX2_foundRecord_7 22 rfl rfl
theorem dX2_foundRecord_0 : decode cX2_foundRecord 0 = .ok (.aload_n 0, 1) := dk_42 (dk_at dksX2_foundRecord_0 0 rfl rfl)
theorem dX2_foundRecord_1 : decode cX2_foundRecord 1 = .ok (.getfield 7, 3) := dk_180 0 7 (dk_at dksX2_foundRecord_0 1 rfl rfl)
theorem dX2_foundRecord_4 : decode cX2_foundRecord 4 = .ok (.iload_n 1, 1) := dk_27 (dk_at dksX2_foundRecord_0 4 rfl rfl)
theorem dX2_foundRecord_5 : decode cX2_foundRecord 5 = .ok (.iaload, 1) := dk_46 (dk_at dksX2_foundRecord_0 5 rfl rfl)
theorem dX2_foundRecord_6 : decode cX2_foundRecord 6 = .ok (.bipush 6, 2) := dk_16 6 (dk_at dksX2_foundRecord_0 6 rfl rfl)
theorem dX2_foundRecord_8 : decode cX2_foundRecord 8 = .ok (.if_icmp .ne 16, 3) := dk_160 0 16 (dk_at dksX2_foundRecord_0 8 rfl rfl)
theorem dX2_foundRecord_11 : decode cX2_foundRecord 11 = .ok (.iconst 3, 1) := dk_6 (dk_at dksX2_foundRecord_0 11 rfl rfl)
theorem dX2_foundRecord_12 : decode cX2_foundRecord 12 = .ok (.new 92, 3) := dk_187 0 92 (dk_at dksX2_foundRecord_0 12 rfl rfl)
theorem dX2_foundRecord_15 : decode cX2_foundRecord 15 = .ok (.dup, 1) := dk_89 (dk_at dksX2_foundRecord_0 15 rfl rfl)
theorem dX2_foundRecord_16 : decode cX2_foundRecord 16 = .ok (.iconst 1, 1) := dk_4 (dk_at dksX2_foundRecord_0 16 rfl rfl)
theorem dX2_foundRecord_17 : decode cX2_foundRecord 17 = .ok (.invokespecial 94, 3) := dk_183 0 94 (dk_at dksX2_foundRecord_0 17 rfl rfl)
theorem dX2_foundRecord_20 : decode cX2_foundRecord 20 = .ok (.invokestatic 250, 3) := dk_184 0 250 (dk_at dksX2_foundRecord_0 20 rfl rfl)
theorem dX2_foundRecord_23 : decode cX2_foundRecord 23 = .ok (.areturn, 1) := dk_176 (dk_at dksX2_foundRecord_0 23 rfl rfl)
theorem dX2_foundRecord_24 : decode cX2_foundRecord 24 = .ok (.aload_n 0, 1) := dk_42 (dk_at dksX2_foundRecord_1 0 rfl rfl)
theorem dX2_foundRecord_25 : decode cX2_foundRecord 25 = .ok (.getfield 13, 3) := dk_180 0 13 (dk_at dksX2_foundRecord_1 1 rfl rfl)
theorem dX2_foundRecord_28 : decode cX2_foundRecord 28 = .ok (.iload_n 1, 1) := dk_27 (dk_at dksX2_foundRecord_1 4 rfl rfl)
theorem dX2_foundRecord_29 : decode cX2_foundRecord 29 = .ok (.iaload, 1) := dk_46 (dk_at dksX2_foundRecord_1 5 rfl rfl)
theorem dX2_foundRecord_30 : decode cX2_foundRecord 30 = .ok (.istore_n 3, 1) := dk_62 (dk_at dksX2_foundRecord_1 6 rfl rfl)
theorem dX2_foundRecord_31 : decode cX2_foundRecord 31 = .ok (.aload_n 0, 1) := dk_42 (dk_at dksX2_foundRecord_1 7 rfl rfl)
theorem dX2_foundRecord_32 : decode cX2_foundRecord 32 = .ok (.aload_n 0, 1) := dk_42 (dk_at dksX2_foundRecord_1 8 rfl rfl)
theorem dX2_foundRecord_33 : decode cX2_foundRecord 33 = .ok (.getfield 16, 3) := dk_180 0 16 (dk_at dksX2_foundRecord_1 9 rfl rfl)
theorem dX2_foundRecord_36 : decode cX2_foundRecord 36 = .ok (.iload_n 1, 1) := dk_27 (dk_at dksX2_foundRecord_1 12 rfl rfl)
theorem dX2_foundRecord_37 : decode cX2_foundRecord 37 = .ok (.iaload, 1) := dk_46 (dk_at dksX2_foundRecord_1 13 rfl rfl)
theorem dX2_foundRecord_38 : decode cX2_foundRecord 38 = .ok (.aload_n 2, 1) := dk_44 (dk_at dksX2_foundRecord_1 14 rfl rfl)
theorem dX2_foundRecord_39 : decode cX2_foundRecord 39 = .ok (.invokevirtual 271, 3) := dk_182 1 15 (dk_at dksX2_foundRecord_1 15 rfl rfl)
theorem dX2_foundRecord_42 : decode cX2_foundRecord 42 = .ok (.astore 4, 2) := dk_58 4 (dk_at dksX2_foundRecord_1 18 rfl rfl)
theorem dX2_foundRecord_44 : decode cX2_foundRecord 44 = .ok (.aload_n 0, 1) := dk_42 (dk_at dksX2_foundRecord_1 20 rfl rfl)
theorem dX2_foundRecord_45 : decode cX2_foundRecord 45 = .ok (.getfield 7, 3) := dk_180 0 7 (dk_at dksX2_foundRecord_1 21 rfl rfl)
theorem dX2_foundRecord_48 : decode cX2_foundRecord 48 = .ok (.iload_n 1, 1) := dk_27 (dk_at dksX2_foundRecord_2 0 rfl rfl)
theorem dX2_foundRecord_49 : decode cX2_foundRecord 49 = .ok (.iaload, 1) := dk_46 (dk_at dksX2_foundRecord_2 1 rfl rfl)
theorem dX2_foundRecord_50 : decode cX2_foundRecord 50 = .ok (.bipush 10, 2) := dk_16 10 (dk_at dksX2_foundRecord_2 2 rfl rfl)
theorem dX2_foundRecord_52 : decode cX2_foundRecord 52 = .ok (.if_icmp .ne 20, 3) := dk_160 0 20 (dk_at dksX2_foundRecord_2 4 rfl rfl)
theorem dX2_foundRecord_55 : decode cX2_foundRecord 55 = .ok (.iconst 4, 1) := dk_7 (dk_at dksX2_foundRecord_2 7 rfl rfl)
theorem dX2_foundRecord_56 : decode cX2_foundRecord 56 = .ok (.iload_n 3, 1) := dk_29 (dk_at dksX2_foundRecord_2 8 rfl rfl)
theorem dX2_foundRecord_57 : decode cX2_foundRecord 57 = .ok (.aload 4, 2) := dk_25 4 (dk_at dksX2_foundRecord_2 9 rfl rfl)
theorem dX2_foundRecord_59 : decode cX2_foundRecord 59 = .ok (.iconst 1, 1) := dk_4 (dk_at dksX2_foundRecord_2 11 rfl rfl)
theorem dX2_foundRecord_60 : decode cX2_foundRecord 60 = .ok (.iload_n 3, 1) := dk_29 (dk_at dksX2_foundRecord_2 12 rfl rfl)
theorem dX2_foundRecord_61 : decode cX2_foundRecord 61 = .ok (.ishl, 1) := dk_120 (dk_at dksX2_foundRecord_2 13 rfl rfl)
theorem dX2_foundRecord_62 : decode cX2_foundRecord 62 = .ok (.invokestatic 179, 3) := dk_184 0 179 (dk_at dksX2_foundRecord_2 14 rfl rfl)
theorem dX2_foundRecord_65 : decode cX2_foundRecord 65 = .ok (.invokestatic 162, 3) := dk_184 0 162 (dk_at dksX2_foundRecord_2 17 rfl rfl)
theorem dX2_foundRecord_68 : decode cX2_foundRecord 68 = .ok (.invokestatic 250, 3) := dk_184 0 250 (dk_at dksX2_foundRecord_2 20 rfl rfl)
theorem dX2_foundRecord_71 : decode cX2_foundRecord 71 = .ok (.areturn, 1) := dk_176 (dk_at dksX2_foundRecord_2 23 rfl rfl)
theorem dX2_foundRecord_72 : decode cX2_foundRecord 72 = .ok (.iconst 1, 1) := dk_4 (dk_at dksX2_foundRecord_3 0 rfl rfl)
theorem dX2_foundRecord_73 : decode cX2_foundRecord 73 = .ok (.iload_n 3, 1) := dk_29 (dk_at dksX2_foundRecord_3 1 rfl rfl)
theorem dX2_foundRecord_74 : decode cX2_foundRecord 74 = .ok (.ishl, 1) := dk_120 (dk_at dksX2_foundRecord_3 2 rfl rfl)
theorem dX2_foundRecord_75 : decode cX2_foundRecord 75 = .ok (.invokestatic 179, 3) := dk_184 0 179 (dk_at dksX2_foundRecord_3 3 rfl rfl)
theorem dX2_foundRecord_78 : decode cX2_foundRecord 78 = .ok (.astore 5, 2) := dk_58 5 (dk_at dksX2_foundRecord_3 6 rfl rfl)
theorem dX2_foundRecord_80 : decode cX2_foundRecord 80 = .ok (.aload_n 0, 1) := dk_42 (dk_at dksX2_foundRecord_3 8 rfl rfl)
theorem dX2_foundRecord_81 : decode cX2_foundRecord 81 = .ok (.getfield 7, 3) := dk_180 0 7 (dk_at dksX2_foundRecord_3 9 rfl rfl)
theorem dX2_foundRecord_84 : decode cX2_foundRecord 84 = .ok (.iload_n 1, 1) := dk_27 (dk_at dksX2_foundRecord_3 12 rfl rfl)
theorem dX2_foundRecord_85 : decode cX2_foundRecord 85 = .ok (.iaload, 1) := dk_46 (dk_at dksX2_foundRecord_3 13 rfl rfl)
theorem dX2_foundRecord_86 : decode cX2_foundRecord 86 = .ok (.bipush 7, 2) := dk_16 7 (dk_at dksX2_foundRecord_3 14 rfl rfl)
theorem dX2_foundRecord_88 : decode cX2_foundRecord 88 = .ok (.if_icmp .ne 46, 3) := dk_160 0 46 (dk_at dksX2_foundRecord_3 16 rfl rfl)
theorem dX2_foundRecord_91 : decode cX2_foundRecord 91 = .ok (.aload_n 0, 1) := dk_42 (dk_at dksX2_foundRecord_3 19 rfl rfl)
theorem dX2_foundRecord_92 : decode cX2_foundRecord 92 = .ok (.aload_n 0, 1) := dk_42 (dk_at dksX2_foundRecord_3 20 rfl rfl)
theorem dX2_foundRecord_93 : decode cX2_foundRecord 93 = .ok (.getfield 19, 3) := dk_180 0 19 (dk_at dksX2_foundRecord_3 21 rfl rfl)
theorem dX2_foundRecord_96 : decode cX2_foundRecord 96 = .ok (.iload_n 1, 1) := dk_27 (dk_at dksX2_foundRecord_4 0 rfl rfl)
theorem dX2_foundRecord_97 : decode cX2_foundRecord 97 = .ok (.iaload, 1) := dk_46 (dk_at dksX2_foundRecord_4 1 rfl rfl)
theorem dX2_foundRecord_98 : decode cX2_foundRecord 98 = .ok (.aload_n 2, 1) := dk_44 (dk_at dksX2_foundRecord_4 2 rfl rfl)
theorem dX2_foundRecord_99 : decode cX2_foundRecord 99 = .ok (.invokevirtual 271, 3) := dk_182 1 15 (dk_at dksX2_foundRecord_4 3 rfl rfl)
theorem dX2_foundRecord_102 : decode cX2_foundRecord 102 = .ok (.astore 6, 2) := dk_58 6 (dk_at dksX2_foundRecord_4 6 rfl rfl)
theorem dX2_foundRecord_104 : decode cX2_foundRecord 104 = .ok (.aload_n 0, 1) := dk_42 (dk_at dksX2_foundRecord_4 8 rfl rfl)
theorem dX2_foundRecord_105 : decode cX2_foundRecord 105 = .ok (.iload_n 1, 1) := dk_27 (dk_at dksX2_foundRecord_4 9 rfl rfl)
theorem dX2_foundRecord_106 : decode cX2_foundRecord 106 = .ok (.putfield 265, 3) := dk_181 1 9 (dk_at dksX2_foundRecord_4 10 rfl rfl)
theorem dX2_foundRecord_109 : decode cX2_foundRecord 109 = .ok (.aload_n 0, 1) := dk_42 (dk_at dksX2_foundRecord_4 13 rfl rfl)
theorem dX2_foundRecord_110 : decode cX2_foundRecord 110 = .ok (.aload 6, 2) := dk_25 6 (dk_at dksX2_foundRecord_4 14 rfl rfl)
theorem dX2_foundRecord_112 : decode cX2_foundRecord 112 = .ok (.iconst 3, 1) := dk_6 (dk_at dksX2_foundRecord_4 16 rfl rfl)
theorem dX2_foundRecord_113 : decode cX2_foundRecord 113 = .ok (.aload 5, 2) := dk_25 5 (dk_at dksX2_foundRecord_4 17 rfl rfl)
theorem dX2_foundRecord_115 : decode cX2_foundRecord 115 = .ok (.invokestatic 250, 3) := dk_184 0 250 (dk_at dksX2_foundRecord_4 19 rfl rfl)
theorem dX2_foundRecord_118 : decode cX2_foundRecord 118 = .ok (.invokevirtual 155, 3) := dk_182 0 155 (dk_at dksX2_foundRecord_5 0 rfl rfl)
theorem dX2_foundRecord_121 : decode cX2_foundRecord 121 = .ok (.iconst 3, 1) := dk_6 (dk_at dksX2_foundRecord_5 3 rfl rfl)
theorem dX2_foundRecord_122 : decode cX2_foundRecord 122 = .ok (.iload_n 3, 1) := dk_29 (dk_at dksX2_foundRecord_5 4 rfl rfl)
theorem dX2_foundRecord_123 : decode cX2_foundRecord 123 = .ok (.aload 4, 2) := dk_25 4 (dk_at dksX2_foundRecord_5 5 rfl rfl)
theorem dX2_foundRecord_125 : decode cX2_foundRecord 125 = .ok (.aload 5, 2) := dk_25 5 (dk_at dksX2_foundRecord_5 7 rfl rfl)
theorem dX2_foundRecord_127 : decode cX2_foundRecord 127 = .ok (.invokestatic 162, 3) := dk_184 0 162 (dk_at dksX2_foundRecord_5 9 rfl rfl)
theorem dX2_foundRecord_130 : decode cX2_foundRecord 130 = .ok (.invokestatic 250, 3) := dk_184 0 250 (dk_at dksX2_foundRecord_5 12 rfl rfl)
theorem dX2_foundRecord_133 : decode cX2_foundRecord 133 = .ok (.areturn, 1) := dk_176 (dk_at dksX2_foundRecord_5 15 rfl rfl)
theorem dX2_foundRecord_134 : decode cX2_foundRecord 134 = .ok (.new 76, 3) := dk_187 0 76 (dk_at dksX2_foundRecord_5 16 rfl rfl)
theorem dX2_foundRecord_137 : decode cX2_foundRecord 137 = .ok (.dup, 1) := dk_89 (dk_at dksX2_foundRecord_5 19 rfl rfl)
theorem dX2_foundRecord_138 : decode cX2_foundRecord 138 = .ok (.iconst 0, 1) := dk_3 (dk_at dksX2_foundRecord_5 20 rfl rfl)
theorem dX2_foundRecord_139 : decode cX2_foundRecord 139 = .ok (.invokespecial 78, 3) := dk_183 0 78 (dk_at dksX2_foundRecord_5 21 rfl rfl)
theorem dX2_foundRecord_142 : decode cX2_foundRecord 142 = .ok (.astore 6, 2) := dk_58 6 (dk_at dksX2_foundRecord_6 0 rfl rfl)
theorem dX2_foundRecord_144 : decode cX2_foundRecord 144 = .ok (.aload_n 0, 1) := dk_42 (dk_at dksX2_foundRecord_6 2 rfl rfl)
theorem dX2_foundRecord_145 : decode cX2_foundRecord 145 = .ok (.iload_n 1, 1) := dk_27 (dk_at dksX2_foundRecord_6 3 rfl rfl)
theorem dX2_foundRecord_146 : decode cX2_foundRecord 146 = .ok (.putfield 265, 3) := dk_181 1 9 (dk_at dksX2_foundRecord_6 4 rfl rfl)
theorem dX2_foundRecord_149 : decode cX2_foundRecord 149 = .ok (.aload_n 0, 1) := dk_42 (dk_at dksX2_foundRecord_6 7 rfl rfl)
theorem dX2_foundRecord_150 : decode cX2_foundRecord 150 = .ok (.aload 4, 2) := dk_25 4 (dk_at dksX2_foundRecord_6 8 rfl rfl)
theorem dX2_foundRecord_152 : decode cX2_foundRecord 152 = .ok (.iconst 3, 1) := dk_6 (dk_at dksX2_foundRecord_6 10 rfl rfl)
theorem dX2_foundRecord_153 : decode cX2_foundRecord 153 = .ok (.iload_n 3, 1) := dk_29 (dk_at dksX2_foundRecord_6 11 rfl rfl)
theorem dX2_foundRecord_154 : decode cX2_foundRecord 154 = .ok (.aload 6, 2) := dk_25 6 (dk_at dksX2_foundRecord_6 12 rfl rfl)
theorem dX2_foundRecord_156 : decode cX2_foundRecord 156 = .ok (.aload 5, 2) := dk_25 5 (dk_at dksX2_foundRecord_6 14 rfl rfl)
theorem dX2_foundRecord_158 : decode cX2_foundRecord 158 = .ok (.invokestatic 162, 3) := dk_184 0 162 (dk_at dksX2_foundRecord_6 16 rfl rfl)
theorem dX2_foundRecord_161 : decode cX2_foundRecord 161 = .ok (.invokestatic 250, 3) := dk_184 0 250 (dk_at dksX2_foundRecord_6 19 rfl rfl)
theorem dX2_foundRecord_164 : decode cX2_foundRecord 164 = .ok (.invokevirtual 155, 3) := dk_182 0 155 (dk_at dksX2_foundRecord_7 0 rfl rfl)
theorem dX2_foundRecord_167 : decode cX2_foundRecord 167 = .ok (.aload_n 0, 1) := dk_42 (dk_at dksX2_foundRecord_7 3 rfl rfl)
theorem dX2_foundRecord_168 : decode cX2_foundRecord 168 = .ok (.getfield 7, 3) := dk_180 0 7 (dk_at dksX2_foundRecord_7 4 rfl rfl)
theorem dX2_foundRecord_171 : decode cX2_foundRecord 171 = .ok (.iload_n 1, 1) := dk_27 (dk_at dksX2_foundRecord_7 7 rfl rfl)
theorem dX2_foundRecord_172 : decode cX2_foundRecord 172 = .ok (.iaload, 1) := dk_46 (dk_at dksX2_foundRecord_7 8 rfl rfl)
theorem dX2_foundRecord_173 : decode cX2_foundRecord 173 = .ok (.bipush 8, 2) := dk_16 8 (dk_at dksX2_foundRecord_7 9 rfl rfl)
theorem dX2_foundRecord_175 : decode cX2_foundRecord 175 = .ok (.if_icmp .ne 8, 3) := dk_160 0 8 (dk_at dksX2_foundRecord_7 11 rfl rfl)
theorem dX2_foundRecord_178 : decode cX2_foundRecord 178 = .ok (.aload 6, 2) := dk_25 6 (dk_at dksX2_foundRecord_7 14 rfl rfl)
theorem dX2_foundRecord_180 : decode cX2_foundRecord 180 = .ok (.goto 9, 3) := dk_167 0 9 (dk_at dksX2_foundRecord_7 16 rfl rfl)
theorem dX2_foundRecord_183 : decode cX2_foundRecord 183 = .ok (.iconst 3, 1) := dk_6 (dk_at dksX2_foundRecord_7 19 rfl rfl)
theorem dX2_foundRecord_184 : decode cX2_foundRecord 184 = .ok (.aload 5, 2) := dk_25 5 (dk_at dksX2_foundRecord_7 20 rfl rfl)
theorem dX2_foundRecord_186 : decode cX2_foundRecord 186 = .ok (.invokestatic 250, 3) := dk_184 0 250 (dk_at dksX2_foundRecord_8 0 rfl rfl)
theorem dX2_foundRecord_189 : decode cX2_foundRecord 189 = .ok (.areturn, 1) := dk_176 (dk_at dksX2_foundRecord_8 3 rfl rfl)
abbrev cX2_errorAt : ByteArray := prog_45_method_42_code
def yX2_errorAt : MethodName := ⟨RX2, "errorAt", "()I"⟩
def dkwX2_errorAt_0 : List UInt8 := [42, 3, 181, 0, 41, 42, 180, 0, 28, 172]
abbrev dktX2_errorAt_0 : List UInt8 := dkwX2_errorAt_0 ++ []
theorem dksX2_errorAt_0 : cX2_errorAt.data.toList.drop 0 = dktX2_errorAt_0 := by decide +kernel
theorem dX2_errorAt_0 : decode cX2_errorAt 0 = .ok (.aload_n 0, 1) := dk_42 (dk_at dksX2_errorAt_0 0 rfl rfl)
theorem dX2_errorAt_1 : decode cX2_errorAt 1 = .ok (.iconst 0, 1) := dk_3 (dk_at dksX2_errorAt_0 1 rfl rfl)
theorem dX2_errorAt_2 : decode cX2_errorAt 2 = .ok (.putfield 41, 3) := dk_181 0 41 (dk_at dksX2_errorAt_0 2 rfl rfl)
theorem dX2_errorAt_5 : decode cX2_errorAt 5 = .ok (.aload_n 0, 1) := dk_42 (dk_at dksX2_errorAt_0 5 rfl rfl)
theorem dX2_errorAt_6 : decode cX2_errorAt 6 = .ok (.getfield 28, 3) := dk_180 0 28 (dk_at dksX2_errorAt_0 6 rfl rfl)
theorem dX2_errorAt_9 : decode cX2_errorAt 9 = .ok (.ireturn, 1) := dk_172 (dk_at dksX2_errorAt_0 9 rfl rfl)
abbrev cX2_size : ByteArray := prog_45_method_49_code
def yX2_size : MethodName := ⟨RX2, "size", "(I)I"⟩
def dkwX2_size_1 : List UInt8 := [198, 0, 7, 4, 167, 0, 4, 3, 4, 182, 0, 59, 153, 0, 10, 45, 182, 1, 77, 167, 0, 4, 3, 172]
abbrev dktX2_size_1 : List UInt8 := dkwX2_size_1 ++ []
def dkwX2_size_0 : List UInt8 := [42, 27, 182, 0, 51, 61, 28, 153, 0, 11, 42, 27, 182, 1, 73, 167, 0, 4, 1, 78, 42, 28, 45]
abbrev dktX2_size_0 : List UInt8 := dkwX2_size_0 ++ dktX2_size_1
theorem dksX2_size_0 : cX2_size.data.toList.drop 0 = dktX2_size_0 := by decide +kernel
theorem dksX2_size_1 : cX2_size.data.toList.drop 23 = dktX2_size_1 := dk_seg dksX2_size_0 23 rfl rfl
theorem dX2_size_0 : decode cX2_size 0 = .ok (.aload_n 0, 1) := dk_42 (dk_at dksX2_size_0 0 rfl rfl)
theorem dX2_size_1 : decode cX2_size 1 = .ok (.iload_n 1, 1) := dk_27 (dk_at dksX2_size_0 1 rfl rfl)
theorem dX2_size_2 : decode cX2_size 2 = .ok (.invokevirtual 51, 3) := dk_182 0 51 (dk_at dksX2_size_0 2 rfl rfl)
theorem dX2_size_5 : decode cX2_size 5 = .ok (.istore_n 2, 1) := dk_61 (dk_at dksX2_size_0 5 rfl rfl)
theorem dX2_size_6 : decode cX2_size 6 = .ok (.iload_n 2, 1) := dk_28 (dk_at dksX2_size_0 6 rfl rfl)
theorem dX2_size_7 : decode cX2_size 7 = .ok (.ifCond .eq 11, 3) := dk_153 0 11 (dk_at dksX2_size_0 7 rfl rfl)
theorem dX2_size_10 : decode cX2_size 10 = .ok (.aload_n 0, 1) := dk_42 (dk_at dksX2_size_0 10 rfl rfl)
theorem dX2_size_11 : decode cX2_size 11 = .ok (.iload_n 1, 1) := dk_27 (dk_at dksX2_size_0 11 rfl rfl)
theorem dX2_size_12 : decode cX2_size 12 = .ok (.invokevirtual 329, 3) := dk_182 1 73 (dk_at dksX2_size_0 12 rfl rfl)
theorem dX2_size_15 : decode cX2_size 15 = .ok (.goto 4, 3) := dk_167 0 4 (dk_at dksX2_size_0 15 rfl rfl)
theorem dX2_size_18 : decode cX2_size 18 = .ok (.aconst_null, 1) := dk_1 (dk_at dksX2_size_0 18 rfl rfl)
theorem dX2_size_19 : decode cX2_size 19 = .ok (.astore_n 3, 1) := dk_78 (dk_at dksX2_size_0 19 rfl rfl)
theorem dX2_size_20 : decode cX2_size 20 = .ok (.aload_n 0, 1) := dk_42 (dk_at dksX2_size_0 20 rfl rfl)
theorem dX2_size_21 : decode cX2_size 21 = .ok (.iload_n 2, 1) := dk_28 (dk_at dksX2_size_0 21 rfl rfl)
theorem dX2_size_22 : decode cX2_size 22 = .ok (.aload_n 3, 1) := dk_45 (dk_at dksX2_size_0 22 rfl rfl)
theorem dX2_size_23 : decode cX2_size 23 = .ok (.ifnull 7, 3) := dk_198 0 7 (dk_at dksX2_size_1 0 rfl rfl)
theorem dX2_size_26 : decode cX2_size 26 = .ok (.iconst 1, 1) := dk_4 (dk_at dksX2_size_1 3 rfl rfl)
theorem dX2_size_27 : decode cX2_size 27 = .ok (.goto 4, 3) := dk_167 0 4 (dk_at dksX2_size_1 4 rfl rfl)
theorem dX2_size_30 : decode cX2_size 30 = .ok (.iconst 0, 1) := dk_3 (dk_at dksX2_size_1 7 rfl rfl)
theorem dX2_size_31 : decode cX2_size 31 = .ok (.iconst 1, 1) := dk_4 (dk_at dksX2_size_1 8 rfl rfl)
theorem dX2_size_32 : decode cX2_size 32 = .ok (.invokevirtual 59, 3) := dk_182 0 59 (dk_at dksX2_size_1 9 rfl rfl)
theorem dX2_size_35 : decode cX2_size 35 = .ok (.ifCond .eq 10, 3) := dk_153 0 10 (dk_at dksX2_size_1 12 rfl rfl)
theorem dX2_size_38 : decode cX2_size 38 = .ok (.aload_n 3, 1) := dk_45 (dk_at dksX2_size_1 15 rfl rfl)
theorem dX2_size_39 : decode cX2_size 39 = .ok (.invokevirtual 333, 3) := dk_182 1 77 (dk_at dksX2_size_1 16 rfl rfl)
theorem dX2_size_42 : decode cX2_size 42 = .ok (.goto 4, 3) := dk_167 0 4 (dk_at dksX2_size_1 19 rfl rfl)
theorem dX2_size_45 : decode cX2_size 45 = .ok (.iconst 0, 1) := dk_3 (dk_at dksX2_size_1 22 rfl rfl)
theorem dX2_size_46 : decode cX2_size 46 = .ok (.ireturn, 1) := dk_172 (dk_at dksX2_size_1 23 rfl rfl)
abbrev cX2_textFor : ByteArray := prog_45_method_48_code
def yX2_textFor : MethodName := ⟨RX2, "textFor", "(I)Ljava/lang/String;"⟩
def dkwX2_textFor_0 : List UInt8 := [42, 27, 182, 1, 35, 77, 44, 199, 0, 7, 1, 167, 0, 7, 44, 184, 1, 69, 176]
abbrev dktX2_textFor_0 : List UInt8 := dkwX2_textFor_0 ++ []
theorem dksX2_textFor_0 : cX2_textFor.data.toList.drop 0 = dktX2_textFor_0 := by decide +kernel
theorem dX2_textFor_0 : decode cX2_textFor 0 = .ok (.aload_n 0, 1) := dk_42 (dk_at dksX2_textFor_0 0 rfl rfl)
theorem dX2_textFor_1 : decode cX2_textFor 1 = .ok (.iload_n 1, 1) := dk_27 (dk_at dksX2_textFor_0 1 rfl rfl)
theorem dX2_textFor_2 : decode cX2_textFor 2 = .ok (.invokevirtual 291, 3) := dk_182 1 35 (dk_at dksX2_textFor_0 2 rfl rfl)
theorem dX2_textFor_5 : decode cX2_textFor 5 = .ok (.astore_n 2, 1) := dk_77 (dk_at dksX2_textFor_0 5 rfl rfl)
theorem dX2_textFor_6 : decode cX2_textFor 6 = .ok (.aload_n 2, 1) := dk_44 (dk_at dksX2_textFor_0 6 rfl rfl)
theorem dX2_textFor_7 : decode cX2_textFor 7 = .ok (.ifnonnull 7, 3) := dk_199 0 7 (dk_at dksX2_textFor_0 7 rfl rfl)
theorem dX2_textFor_10 : decode cX2_textFor 10 = .ok (.aconst_null, 1) := dk_1 (dk_at dksX2_textFor_0 10 rfl rfl)
theorem dX2_textFor_11 : decode cX2_textFor 11 = .ok (.goto 7, 3) := dk_167 0 7 (dk_at dksX2_textFor_0 11 rfl rfl)
theorem dX2_textFor_14 : decode cX2_textFor 14 = .ok (.aload_n 2, 1) := dk_44 (dk_at dksX2_textFor_0 14 rfl rfl)
theorem dX2_textFor_15 : decode cX2_textFor 15 = .ok (.invokestatic 325, 3) := dk_184 1 69 (dk_at dksX2_textFor_0 15 rfl rfl)
theorem dX2_textFor_18 : decode cX2_textFor 18 = .ok (.areturn, 1) := dk_176 (dk_at dksX2_textFor_0 18 rfl rfl)
abbrev cX2_textOf : ByteArray := prog_45_method_47_code
def yX2_textOf : MethodName := ⟨RX2, "textOf", "(LRowenTongueModel$Type;)Ljava/lang/String;"⟩
def dkwX2_textOf_9 : List UInt8 := [167, 255, 72, 43, 182, 1, 65, 176]
abbrev dktX2_textOf_9 : List UInt8 := dkwX2_textOf_9 ++ []
def dkwX2_textOf_8 : List UInt8 := [160, 0, 13, 43, 16, 48, 21, 8, 96, 146, 184, 1, 52, 132, 8, 1, 167, 255, 225, 132, 3, 1]
abbrev dktX2_textOf_8 : List UInt8 := dkwX2_textOf_8 ++ dktX2_textOf_9
def dkwX2_textOf_7 : List UInt8 := [16, 47, 184, 1, 52, 3, 54, 8, 21, 8, 16, 10, 162, 0, 30, 21, 7, 21, 8, 122, 4, 126, 4]
abbrev dktX2_textOf_7 : List UInt8 := dkwX2_textOf_7 ++ dktX2_textOf_8
def dkwX2_textOf_6 : List UInt8 := [184, 1, 48, 184, 1, 52, 21, 6, 153, 0, 9, 43, 16, 61, 184, 1, 52, 21, 7, 153, 0, 9, 43]
abbrev dktX2_textOf_6 : List UInt8 := dkwX2_textOf_6 ++ dktX2_textOf_7
def dkwX2_textOf_5 : List UInt8 := [167, 0, 4, 3, 54, 7, 21, 6, 154, 0, 8, 21, 7, 153, 0, 76, 43, 16, 32, 184, 1, 52, 43, 29]
abbrev dktX2_textOf_5 : List UInt8 := dkwX2_textOf_5 ++ dktX2_textOf_6
def dkwX2_textOf_4 : List UInt8 := [180, 0, 143, 167, 0, 8, 25, 4, 180, 0, 135, 54, 6, 25, 4, 199, 0, 11, 25, 5, 180, 0, 95]
abbrev dktX2_textOf_4 : List UInt8 := dkwX2_textOf_4 ++ dktX2_textOf_5
def dkwX2_textOf_3 : List UInt8 := [199, 0, 14, 44, 29, 182, 0, 223, 192, 0, 92, 167, 0, 4, 1, 58, 5, 25, 4, 199, 0, 11, 25, 5]
abbrev dktX2_textOf_3 : List UInt8 := dkwX2_textOf_3 ++ dktX2_textOf_4
def dkwX2_textOf_2 : List UInt8 := [193, 0, 76, 153, 0, 14, 44, 29, 182, 0, 223, 192, 0, 76, 167, 0, 4, 1, 58, 4, 25, 4]
abbrev dktX2_textOf_2 : List UInt8 := dkwX2_textOf_2 ++ dktX2_textOf_3
def dkwX2_textOf_1 : List UInt8 := [29, 44, 182, 0, 215, 162, 0, 182, 43, 182, 1, 39, 17, 1, 44, 162, 0, 172, 44, 29, 182, 0, 223]
abbrev dktX2_textOf_1 : List UInt8 := dkwX2_textOf_1 ++ dktX2_textOf_2
def dkwX2_textOf_0 : List UInt8 := [187, 1, 40, 89, 183, 1, 64, 76, 187, 0, 192, 89, 183, 0, 209, 77, 42, 43, 44, 184, 1, 60, 3, 62]
abbrev dktX2_textOf_0 : List UInt8 := dkwX2_textOf_0 ++ dktX2_textOf_1
theorem dksX2_textOf_0 : cX2_textOf.data.toList.drop 0 = dktX2_textOf_0 := by decide +kernel
theorem dksX2_textOf_1 : cX2_textOf.data.toList.drop 24 = dktX2_textOf_1 := dk_seg dksX2_textOf_0 24 rfl rfl
theorem dksX2_textOf_2 : cX2_textOf.data.toList.drop 47 = dktX2_textOf_2 := dk_seg dksX2_textOf_1 23 rfl rfl
theorem dksX2_textOf_3 : cX2_textOf.data.toList.drop 69 = dktX2_textOf_3 := dk_seg dksX2_textOf_2 22 rfl rfl
theorem dksX2_textOf_4 : cX2_textOf.data.toList.drop 93 = dktX2_textOf_4 := dk_seg dksX2_textOf_3 24 rfl rfl
theorem dksX2_textOf_5 : cX2_textOf.data.toList.drop 116 = dktX2_textOf_5 := dk_seg dksX2_textOf_4 23 rfl rfl
theorem dksX2_textOf_6 : cX2_textOf.data.toList.drop 140 = dktX2_textOf_6 := dk_seg dksX2_textOf_5 24 rfl rfl
theorem dksX2_textOf_7 : cX2_textOf.data.toList.drop 163 = dktX2_textOf_7 := dk_seg dksX2_textOf_6 23 rfl rfl
theorem dksX2_textOf_8 : cX2_textOf.data.toList.drop 186 = dktX2_textOf_8 := dk_seg dksX2_textOf_7 23 rfl rfl
theorem dksX2_textOf_9 : cX2_textOf.data.toList.drop 208 = dktX2_textOf_9 := dk_seg dksX2_textOf_8 22 rfl rfl
theorem dX2_textOf_0 : decode cX2_textOf 0 = .ok (.new 296, 3) := dk_187 1 40 (dk_at dksX2_textOf_0 0 rfl rfl)
theorem dX2_textOf_3 : decode cX2_textOf 3 = .ok (.dup, 1) := dk_89 (dk_at dksX2_textOf_0 3 rfl rfl)
theorem dX2_textOf_4 : decode cX2_textOf 4 = .ok (.invokespecial 320, 3) := dk_183 1 64 (dk_at dksX2_textOf_0 4 rfl rfl)
theorem dX2_textOf_7 : decode cX2_textOf 7 = .ok (.astore_n 1, 1) := dk_76 (dk_at dksX2_textOf_0 7 rfl rfl)
theorem dX2_textOf_8 : decode cX2_textOf 8 = .ok (.new 192, 3) := dk_187 0 192 (dk_at dksX2_textOf_0 8 rfl rfl)
theorem dX2_textOf_11 : decode cX2_textOf 11 = .ok (.dup, 1) := dk_89 (dk_at dksX2_textOf_0 11 rfl rfl)
theorem dX2_textOf_12 : decode cX2_textOf 12 = .ok (.invokespecial 209, 3) := dk_183 0 209 (dk_at dksX2_textOf_0 12 rfl rfl)
theorem dX2_textOf_15 : decode cX2_textOf 15 = .ok (.astore_n 2, 1) := dk_77 (dk_at dksX2_textOf_0 15 rfl rfl)
theorem dX2_textOf_16 : decode cX2_textOf 16 = .ok (.aload_n 0, 1) := dk_42 (dk_at dksX2_textOf_0 16 rfl rfl)
theorem dX2_textOf_17 : decode cX2_textOf 17 = .ok (.aload_n 1, 1) := dk_43 (dk_at dksX2_textOf_0 17 rfl rfl)
theorem dX2_textOf_18 : decode cX2_textOf 18 = .ok (.aload_n 2, 1) := dk_44 (dk_at dksX2_textOf_0 18 rfl rfl)
theorem dX2_textOf_19 : decode cX2_textOf 19 = .ok (.invokestatic 316, 3) := dk_184 1 60 (dk_at dksX2_textOf_0 19 rfl rfl)
theorem dX2_textOf_22 : decode cX2_textOf 22 = .ok (.iconst 0, 1) := dk_3 (dk_at dksX2_textOf_0 22 rfl rfl)
theorem dX2_textOf_23 : decode cX2_textOf 23 = .ok (.istore_n 3, 1) := dk_62 (dk_at dksX2_textOf_0 23 rfl rfl)
theorem dX2_textOf_24 : decode cX2_textOf 24 = .ok (.iload_n 3, 1) := dk_29 (dk_at dksX2_textOf_1 0 rfl rfl)
theorem dX2_textOf_25 : decode cX2_textOf 25 = .ok (.aload_n 2, 1) := dk_44 (dk_at dksX2_textOf_1 1 rfl rfl)
theorem dX2_textOf_26 : decode cX2_textOf 26 = .ok (.invokevirtual 215, 3) := dk_182 0 215 (dk_at dksX2_textOf_1 2 rfl rfl)
theorem dX2_textOf_29 : decode cX2_textOf 29 = .ok (.if_icmp .ge 182, 3) := dk_162 0 182 (dk_at dksX2_textOf_1 5 rfl rfl)
theorem dX2_textOf_32 : decode cX2_textOf 32 = .ok (.aload_n 1, 1) := dk_43 (dk_at dksX2_textOf_1 8 rfl rfl)
theorem dX2_textOf_33 : decode cX2_textOf 33 = .ok (.invokevirtual 295, 3) := dk_182 1 39 (dk_at dksX2_textOf_1 9 rfl rfl)
theorem dX2_textOf_36 : decode cX2_textOf 36 = .ok (.sipush 300, 3) := dk_17 1 44 (dk_at dksX2_textOf_1 12 rfl rfl)
theorem dX2_textOf_39 : decode cX2_textOf 39 = .ok (.if_icmp .ge 172, 3) := dk_162 0 172 (dk_at dksX2_textOf_1 15 rfl rfl)
theorem dX2_textOf_42 : decode cX2_textOf 42 = .ok (.aload_n 2, 1) := dk_44 (dk_at dksX2_textOf_1 18 rfl rfl)
theorem dX2_textOf_43 : decode cX2_textOf 43 = .ok (.iload_n 3, 1) := dk_29 (dk_at dksX2_textOf_1 19 rfl rfl)
theorem dX2_textOf_44 : decode cX2_textOf 44 = .ok (.invokevirtual 223, 3) := dk_182 0 223 (dk_at dksX2_textOf_1 20 rfl rfl)
theorem dX2_textOf_47 : decode cX2_textOf 47 = .ok (.instanceof 76, 3) := dk_193 0 76 (dk_at dksX2_textOf_2 0 rfl rfl)
theorem dX2_textOf_50 : decode cX2_textOf 50 = .ok (.ifCond .eq 14, 3) := dk_153 0 14 (dk_at dksX2_textOf_2 3 rfl rfl)
theorem dX2_textOf_53 : decode cX2_textOf 53 = .ok (.aload_n 2, 1) := dk_44 (dk_at dksX2_textOf_2 6 rfl rfl)
theorem dX2_textOf_54 : decode cX2_textOf 54 = .ok (.iload_n 3, 1) := dk_29 (dk_at dksX2_textOf_2 7 rfl rfl)
theorem dX2_textOf_55 : decode cX2_textOf 55 = .ok (.invokevirtual 223, 3) := dk_182 0 223 (dk_at dksX2_textOf_2 8 rfl rfl)
theorem dX2_textOf_58 : decode cX2_textOf 58 = .ok (.checkcast 76, 3) := dk_192 0 76 (dk_at dksX2_textOf_2 11 rfl rfl)
theorem dX2_textOf_61 : decode cX2_textOf 61 = .ok (.goto 4, 3) := dk_167 0 4 (dk_at dksX2_textOf_2 14 rfl rfl)
theorem dX2_textOf_64 : decode cX2_textOf 64 = .ok (.aconst_null, 1) := dk_1 (dk_at dksX2_textOf_2 17 rfl rfl)
theorem dX2_textOf_65 : decode cX2_textOf 65 = .ok (.astore 4, 2) := dk_58 4 (dk_at dksX2_textOf_2 18 rfl rfl)
theorem dX2_textOf_67 : decode cX2_textOf 67 = .ok (.aload 4, 2) := dk_25 4 (dk_at dksX2_textOf_2 20 rfl rfl)
theorem dX2_textOf_69 : decode cX2_textOf 69 = .ok (.ifnonnull 14, 3) := dk_199 0 14 (dk_at dksX2_textOf_3 0 rfl rfl)
theorem dX2_textOf_72 : decode cX2_textOf 72 = .ok (.aload_n 2, 1) := dk_44 (dk_at dksX2_textOf_3 3 rfl rfl)
theorem dX2_textOf_73 : decode cX2_textOf 73 = .ok (.iload_n 3, 1) := dk_29 (dk_at dksX2_textOf_3 4 rfl rfl)
theorem dX2_textOf_74 : decode cX2_textOf 74 = .ok (.invokevirtual 223, 3) := dk_182 0 223 (dk_at dksX2_textOf_3 5 rfl rfl)
theorem dX2_textOf_77 : decode cX2_textOf 77 = .ok (.checkcast 92, 3) := dk_192 0 92 (dk_at dksX2_textOf_3 8 rfl rfl)
theorem dX2_textOf_80 : decode cX2_textOf 80 = .ok (.goto 4, 3) := dk_167 0 4 (dk_at dksX2_textOf_3 11 rfl rfl)
theorem dX2_textOf_83 : decode cX2_textOf 83 = .ok (.aconst_null, 1) := dk_1 (dk_at dksX2_textOf_3 14 rfl rfl)
theorem dX2_textOf_84 : decode cX2_textOf 84 = .ok (.astore 5, 2) := dk_58 5 (dk_at dksX2_textOf_3 15 rfl rfl)
theorem dX2_textOf_86 : decode cX2_textOf 86 = .ok (.aload 4, 2) := dk_25 4 (dk_at dksX2_textOf_3 17 rfl rfl)
theorem dX2_textOf_88 : decode cX2_textOf 88 = .ok (.ifnonnull 11, 3) := dk_199 0 11 (dk_at dksX2_textOf_3 19 rfl rfl)
theorem dX2_textOf_91 : decode cX2_textOf 91 = .ok (.aload 5, 2) := dk_25 5 (dk_at dksX2_textOf_3 22 rfl rfl)
theorem dX2_textOf_93 : decode cX2_textOf 93 = .ok (.getfield 143, 3) := dk_180 0 143 (dk_at dksX2_textOf_4 0 rfl rfl)
theorem dX2_textOf_96 : decode cX2_textOf 96 = .ok (.goto 8, 3) := dk_167 0 8 (dk_at dksX2_textOf_4 3 rfl rfl)
theorem dX2_textOf_99 : decode cX2_textOf 99 = .ok (.aload 4, 2) := dk_25 4 (dk_at dksX2_textOf_4 6 rfl rfl)
theorem dX2_textOf_101 : decode cX2_textOf 101 = .ok (.getfield 135, 3) := dk_180 0 135 (dk_at dksX2_textOf_4 8 rfl rfl)
theorem dX2_textOf_104 : decode cX2_textOf 104 = .ok (.istore 6, 2) := dk_54 6 (dk_at dksX2_textOf_4 11 rfl rfl)
theorem dX2_textOf_106 : decode cX2_textOf 106 = .ok (.aload 4, 2) := dk_25 4 (dk_at dksX2_textOf_4 13 rfl rfl)
theorem dX2_textOf_108 : decode cX2_textOf 108 = .ok (.ifnonnull 11, 3) := dk_199 0 11 (dk_at dksX2_textOf_4 15 rfl rfl)
theorem dX2_textOf_111 : decode cX2_textOf 111 = .ok (.aload 5, 2) := dk_25 5 (dk_at dksX2_textOf_4 18 rfl rfl)
theorem dX2_textOf_113 : decode cX2_textOf 113 = .ok (.getfield 95, 3) := dk_180 0 95 (dk_at dksX2_textOf_4 20 rfl rfl)
theorem dX2_textOf_116 : decode cX2_textOf 116 = .ok (.goto 4, 3) := dk_167 0 4 (dk_at dksX2_textOf_5 0 rfl rfl)
theorem dX2_textOf_119 : decode cX2_textOf 119 = .ok (.iconst 0, 1) := dk_3 (dk_at dksX2_textOf_5 3 rfl rfl)
theorem dX2_textOf_120 : decode cX2_textOf 120 = .ok (.istore 7, 2) := dk_54 7 (dk_at dksX2_textOf_5 4 rfl rfl)
theorem dX2_textOf_122 : decode cX2_textOf 122 = .ok (.iload 6, 2) := dk_21 6 (dk_at dksX2_textOf_5 6 rfl rfl)
theorem dX2_textOf_124 : decode cX2_textOf 124 = .ok (.ifCond .ne 8, 3) := dk_154 0 8 (dk_at dksX2_textOf_5 8 rfl rfl)
theorem dX2_textOf_127 : decode cX2_textOf 127 = .ok (.iload 7, 2) := dk_21 7 (dk_at dksX2_textOf_5 11 rfl rfl)
theorem dX2_textOf_129 : decode cX2_textOf 129 = .ok (.ifCond .eq 76, 3) := dk_153 0 76 (dk_at dksX2_textOf_5 13 rfl rfl)
theorem dX2_textOf_132 : decode cX2_textOf 132 = .ok (.aload_n 1, 1) := dk_43 (dk_at dksX2_textOf_5 16 rfl rfl)
theorem dX2_textOf_133 : decode cX2_textOf 133 = .ok (.bipush 32, 2) := dk_16 32 (dk_at dksX2_textOf_5 17 rfl rfl)
theorem dX2_textOf_135 : decode cX2_textOf 135 = .ok (.invokestatic 308, 3) := dk_184 1 52 (dk_at dksX2_textOf_5 19 rfl rfl)
theorem dX2_textOf_138 : decode cX2_textOf 138 = .ok (.aload_n 1, 1) := dk_43 (dk_at dksX2_textOf_5 22 rfl rfl)
theorem dX2_textOf_139 : decode cX2_textOf 139 = .ok (.iload_n 3, 1) := dk_29 (dk_at dksX2_textOf_5 23 rfl rfl)
theorem dX2_textOf_140 : decode cX2_textOf 140 = .ok (.invokestatic 304, 3) := dk_184 1 48 (dk_at dksX2_textOf_6 0 rfl rfl)
theorem dX2_textOf_143 : decode cX2_textOf 143 = .ok (.invokestatic 308, 3) := dk_184 1 52 (dk_at dksX2_textOf_6 3 rfl rfl)
theorem dX2_textOf_146 : decode cX2_textOf 146 = .ok (.iload 6, 2) := dk_21 6 (dk_at dksX2_textOf_6 6 rfl rfl)
theorem dX2_textOf_148 : decode cX2_textOf 148 = .ok (.ifCond .eq 9, 3) := dk_153 0 9 (dk_at dksX2_textOf_6 8 rfl rfl)
theorem dX2_textOf_151 : decode cX2_textOf 151 = .ok (.aload_n 1, 1) := dk_43 (dk_at dksX2_textOf_6 11 rfl rfl)
theorem dX2_textOf_152 : decode cX2_textOf 152 = .ok (.bipush 61, 2) := dk_16 61 (dk_at dksX2_textOf_6 12 rfl rfl)
theorem dX2_textOf_154 : decode cX2_textOf 154 = .ok (.invokestatic 308, 3) := dk_184 1 52 (dk_at dksX2_textOf_6 14 rfl rfl)
theorem dX2_textOf_157 : decode cX2_textOf 157 = .ok (.iload 7, 2) := dk_21 7 (dk_at dksX2_textOf_6 17 rfl rfl)
theorem dX2_textOf_159 : decode cX2_textOf 159 = .ok (.ifCond .eq 9, 3) := dk_153 0 9 (dk_at dksX2_textOf_6 19 rfl rfl)
theorem dX2_textOf_162 : decode cX2_textOf 162 = .ok (.aload_n 1, 1) := dk_43 (dk_at dksX2_textOf_6 22 rfl rfl)
theorem dX2_textOf_163 : decode cX2_textOf 163 = .ok (.bipush 47, 2) := dk_16 47 (dk_at dksX2_textOf_7 0 rfl rfl)
theorem dX2_textOf_165 : decode cX2_textOf 165 = .ok (.invokestatic 308, 3) := dk_184 1 52 (dk_at dksX2_textOf_7 2 rfl rfl)
theorem dX2_textOf_168 : decode cX2_textOf 168 = .ok (.iconst 0, 1) := dk_3 (dk_at dksX2_textOf_7 5 rfl rfl)
theorem dX2_textOf_169 : decode cX2_textOf 169 = .ok (.istore 8, 2) := dk_54 8 (dk_at dksX2_textOf_7 6 rfl rfl)
theorem dX2_textOf_171 : decode cX2_textOf 171 = .ok (.iload 8, 2) := dk_21 8 (dk_at dksX2_textOf_7 8 rfl rfl)
theorem dX2_textOf_173 : decode cX2_textOf 173 = .ok (.bipush 10, 2) := dk_16 10 (dk_at dksX2_textOf_7 10 rfl rfl)
theorem dX2_textOf_175 : decode cX2_textOf 175 = .ok (.if_icmp .ge 30, 3) := dk_162 0 30 (dk_at dksX2_textOf_7 12 rfl rfl)
theorem dX2_textOf_178 : decode cX2_textOf 178 = .ok (.iload 7, 2) := dk_21 7 (dk_at dksX2_textOf_7 15 rfl rfl)
theorem dX2_textOf_180 : decode cX2_textOf 180 = .ok (.iload 8, 2) := dk_21 8 (dk_at dksX2_textOf_7 17 rfl rfl)
theorem dX2_textOf_182 : decode cX2_textOf 182 = .ok (.ishr, 1) := dk_122 (dk_at dksX2_textOf_7 19 rfl rfl)
theorem dX2_textOf_183 : decode cX2_textOf 183 = .ok (.iconst 1, 1) := dk_4 (dk_at dksX2_textOf_7 20 rfl rfl)
theorem dX2_textOf_184 : decode cX2_textOf 184 = .ok (.iand, 1) := dk_126 (dk_at dksX2_textOf_7 21 rfl rfl)
theorem dX2_textOf_185 : decode cX2_textOf 185 = .ok (.iconst 1, 1) := dk_4 (dk_at dksX2_textOf_7 22 rfl rfl)
theorem dX2_textOf_186 : decode cX2_textOf 186 = .ok (.if_icmp .ne 13, 3) := dk_160 0 13 (dk_at dksX2_textOf_8 0 rfl rfl)
theorem dX2_textOf_189 : decode cX2_textOf 189 = .ok (.aload_n 1, 1) := dk_43 (dk_at dksX2_textOf_8 3 rfl rfl)
theorem dX2_textOf_190 : decode cX2_textOf 190 = .ok (.bipush 48, 2) := dk_16 48 (dk_at dksX2_textOf_8 4 rfl rfl)
theorem dX2_textOf_192 : decode cX2_textOf 192 = .ok (.iload 8, 2) := dk_21 8 (dk_at dksX2_textOf_8 6 rfl rfl)
theorem dX2_textOf_194 : decode cX2_textOf 194 = .ok (.iadd, 1) := dk_96 (dk_at dksX2_textOf_8 8 rfl rfl)
theorem dX2_textOf_195 : decode cX2_textOf 195 = .ok (.i2c, 1) := dk_146 (dk_at dksX2_textOf_8 9 rfl rfl)
theorem dX2_textOf_196 : decode cX2_textOf 196 = .ok (.invokestatic 308, 3) := dk_184 1 52 (dk_at dksX2_textOf_8 10 rfl rfl)
theorem dX2_textOf_199 : decode cX2_textOf 199 = .ok (.iinc 8 1, 3) := dk_132 8 1 (dk_at dksX2_textOf_8 13 rfl rfl)
theorem dX2_textOf_202 : decode cX2_textOf 202 = .ok (.goto (-31), 3) := dk_167 255 225 (dk_at dksX2_textOf_8 16 rfl rfl)
theorem dX2_textOf_205 : decode cX2_textOf 205 = .ok (.iinc 3 1, 3) := dk_132 3 1 (dk_at dksX2_textOf_8 19 rfl rfl)
theorem dX2_textOf_208 : decode cX2_textOf 208 = .ok (.goto (-184), 3) := dk_167 255 72 (dk_at dksX2_textOf_9 0 rfl rfl)
theorem dX2_textOf_211 : decode cX2_textOf 211 = .ok (.aload_n 1, 1) := dk_43 (dk_at dksX2_textOf_9 3 rfl rfl)
theorem dX2_textOf_212 : decode cX2_textOf 212 = .ok (.invokevirtual 321, 3) := dk_182 1 65 (dk_at dksX2_textOf_9 4 rfl rfl)
theorem dX2_textOf_215 : decode cX2_textOf 215 = .ok (.areturn, 1) := dk_176 (dk_at dksX2_textOf_9 7 rfl rfl)
abbrev cX2_putType : ByteArray := prog_45_method_46_code
def yX2_putType : MethodName := ⟨RX2, "putType", "(LRowenTongueModel$Type;Ljava/lang/StringBuilder;Ljava/util/ArrayList;)V"⟩
def dkwX2_putType_10 : List UInt8 := [16, 93, 184, 1, 52, 177]
abbrev dktX2_putType_10 : List UInt8 := dkwX2_putType_10 ++ []
def dkwX2_putType_9 : List UInt8 := [184, 1, 52, 25, 5, 43, 44, 184, 1, 56, 43, 45, 180, 0, 118, 6, 160, 0, 8, 16, 125, 167, 0, 5]
abbrev dktX2_putType_9 : List UInt8 := dkwX2_putType_9 ++ dktX2_putType_10
def dkwX2_putType_8 : List UInt8 := [43, 44, 184, 1, 60, 132, 7, 1, 167, 255, 198, 25, 5, 180, 0, 131, 154, 0, 16, 43, 16, 124]
abbrev dktX2_putType_8 : List UInt8 := dkwX2_putType_8 ++ dktX2_putType_9
def dkwX2_putType_7 : List UInt8 := [4, 54, 6, 43, 16, 48, 21, 7, 96, 146, 184, 1, 52, 43, 16, 58, 184, 1, 52, 25, 4, 21, 7, 50]
abbrev dktX2_putType_7 : List UInt8 := dkwX2_putType_7 ++ dktX2_putType_8
def dkwX2_putType_6 : List UInt8 := [16, 10, 162, 0, 57, 25, 4, 21, 7, 50, 198, 0, 43, 21, 6, 153, 0, 9, 43, 16, 44, 184, 1, 52]
abbrev dktX2_putType_6 : List UInt8 := dkwX2_putType_6 ++ dktX2_putType_7
def dkwX2_putType_5 : List UInt8 := [189, 0, 76, 58, 4, 45, 180, 0, 88, 25, 4, 184, 0, 171, 58, 5, 3, 54, 6, 3, 54, 7, 21, 7]
abbrev dktX2_putType_5 : List UInt8 := dkwX2_putType_5 ++ dktX2_putType_6
def dkwX2_putType_4 : List UInt8 := [167, 0, 147, 43, 45, 180, 0, 118, 6, 160, 0, 8, 16, 123, 167, 0, 5, 16, 91, 184, 1, 52, 16, 10]
abbrev dktX2_putType_4 : List UInt8 := dkwX2_putType_4 ++ dktX2_putType_5
def dkwX2_putType_3 : List UInt8 := [184, 1, 60, 43, 16, 62, 184, 1, 52, 45, 180, 0, 85, 43, 44, 184, 1, 60, 43, 16, 41, 184, 1, 52]
abbrev dktX2_putType_3 : List UInt8 := dkwX2_putType_3 ++ dktX2_putType_4
def dkwX2_putType_2 : List UInt8 := [167, 0, 194, 45, 180, 0, 118, 5, 160, 0, 42, 43, 16, 40, 184, 1, 52, 45, 180, 0, 81, 43, 44]
abbrev dktX2_putType_2 : List UInt8 := dkwX2_putType_2 ++ dktX2_putType_3
def dkwX2_putType_1 : List UInt8 := [43, 16, 78, 184, 1, 52, 167, 0, 210, 45, 180, 0, 118, 154, 0, 12, 45, 43, 44, 184, 1, 56]
abbrev dktX2_putType_1 : List UInt8 := dkwX2_putType_1 ++ dktX2_putType_2
def dkwX2_putType_0 : List UInt8 := [42, 182, 0, 111, 78, 43, 182, 1, 39, 17, 1, 44, 161, 0, 4, 177, 45, 180, 0, 118, 4, 160, 0, 12]
abbrev dktX2_putType_0 : List UInt8 := dkwX2_putType_0 ++ dktX2_putType_1
theorem dksX2_putType_0 : cX2_putType.data.toList.drop 0 = dktX2_putType_0 := by decide +kernel
theorem dksX2_putType_1 : cX2_putType.data.toList.drop 24 = dktX2_putType_1 := dk_seg dksX2_putType_0 24 rfl rfl
theorem dksX2_putType_2 : cX2_putType.data.toList.drop 46 = dktX2_putType_2 := dk_seg dksX2_putType_1 22 rfl rfl
theorem dksX2_putType_3 : cX2_putType.data.toList.drop 69 = dktX2_putType_3 := dk_seg dksX2_putType_2 23 rfl rfl
theorem dksX2_putType_4 : cX2_putType.data.toList.drop 93 = dktX2_putType_4 := dk_seg dksX2_putType_3 24 rfl rfl
theorem dksX2_putType_5 : cX2_putType.data.toList.drop 117 = dktX2_putType_5 := dk_seg dksX2_putType_4 24 rfl rfl
theorem dksX2_putType_6 : cX2_putType.data.toList.drop 141 = dktX2_putType_6 := dk_seg dksX2_putType_5 24 rfl rfl
theorem dksX2_putType_7 : cX2_putType.data.toList.drop 165 = dktX2_putType_7 := dk_seg dksX2_putType_6 24 rfl rfl
theorem dksX2_putType_8 : cX2_putType.data.toList.drop 189 = dktX2_putType_8 := dk_seg dksX2_putType_7 24 rfl rfl
theorem dksX2_putType_9 : cX2_putType.data.toList.drop 211 = dktX2_putType_9 := dk_seg dksX2_putType_8 22 rfl rfl
theorem dksX2_putType_10 : cX2_putType.data.toList.drop 235 = dktX2_putType_10 := dk_seg dksX2_putType_9 24 rfl rfl
theorem dX2_putType_0 : decode cX2_putType 0 = .ok (.aload_n 0, 1) := dk_42 (dk_at dksX2_putType_0 0 rfl rfl)
theorem dX2_putType_1 : decode cX2_putType 1 = .ok (.invokevirtual 111, 3) := dk_182 0 111 (dk_at dksX2_putType_0 1 rfl rfl)
theorem dX2_putType_4 : decode cX2_putType 4 = .ok (.astore_n 3, 1) := dk_78 (dk_at dksX2_putType_0 4 rfl rfl)
theorem dX2_putType_5 : decode cX2_putType 5 = .ok (.aload_n 1, 1) := dk_43 (dk_at dksX2_putType_0 5 rfl rfl)
theorem dX2_putType_6 : decode cX2_putType 6 = .ok (.invokevirtual 295, 3) := dk_182 1 39 (dk_at dksX2_putType_0 6 rfl rfl)
theorem dX2_putType_9 : decode cX2_putType 9 = .ok (.sipush 300, 3) := dk_17 1 44 (dk_at dksX2_putType_0 9 rfl rfl)
theorem dX2_putType_12 : decode cX2_putType 12 = .ok (.if_icmp .lt 4, 3) := dk_161 0 4 (dk_at dksX2_putType_0 12 rfl rfl)
theorem dX2_putType_15 : decode cX2_putType 15 = .ok (.return_, 1) := dk_177 (dk_at dksX2_putType_0 15 rfl rfl)
theorem dX2_putType_16 : decode cX2_putType 16 = .ok (.aload_n 3, 1) := dk_45 (dk_at dksX2_putType_0 16 rfl rfl)
theorem dX2_putType_17 : decode cX2_putType 17 = .ok (.getfield 118, 3) := dk_180 0 118 (dk_at dksX2_putType_0 17 rfl rfl)
theorem dX2_putType_20 : decode cX2_putType 20 = .ok (.iconst 1, 1) := dk_4 (dk_at dksX2_putType_0 20 rfl rfl)
theorem dX2_putType_21 : decode cX2_putType 21 = .ok (.if_icmp .ne 12, 3) := dk_160 0 12 (dk_at dksX2_putType_0 21 rfl rfl)
theorem dX2_putType_24 : decode cX2_putType 24 = .ok (.aload_n 1, 1) := dk_43 (dk_at dksX2_putType_1 0 rfl rfl)
theorem dX2_putType_25 : decode cX2_putType 25 = .ok (.bipush 78, 2) := dk_16 78 (dk_at dksX2_putType_1 1 rfl rfl)
theorem dX2_putType_27 : decode cX2_putType 27 = .ok (.invokestatic 308, 3) := dk_184 1 52 (dk_at dksX2_putType_1 3 rfl rfl)
theorem dX2_putType_30 : decode cX2_putType 30 = .ok (.goto 210, 3) := dk_167 0 210 (dk_at dksX2_putType_1 6 rfl rfl)
theorem dX2_putType_33 : decode cX2_putType 33 = .ok (.aload_n 3, 1) := dk_45 (dk_at dksX2_putType_1 9 rfl rfl)
theorem dX2_putType_34 : decode cX2_putType 34 = .ok (.getfield 118, 3) := dk_180 0 118 (dk_at dksX2_putType_1 10 rfl rfl)
theorem dX2_putType_37 : decode cX2_putType 37 = .ok (.ifCond .ne 12, 3) := dk_154 0 12 (dk_at dksX2_putType_1 13 rfl rfl)
theorem dX2_putType_40 : decode cX2_putType 40 = .ok (.aload_n 3, 1) := dk_45 (dk_at dksX2_putType_1 16 rfl rfl)
theorem dX2_putType_41 : decode cX2_putType 41 = .ok (.aload_n 1, 1) := dk_43 (dk_at dksX2_putType_1 17 rfl rfl)
theorem dX2_putType_42 : decode cX2_putType 42 = .ok (.aload_n 2, 1) := dk_44 (dk_at dksX2_putType_1 18 rfl rfl)
theorem dX2_putType_43 : decode cX2_putType 43 = .ok (.invokestatic 312, 3) := dk_184 1 56 (dk_at dksX2_putType_1 19 rfl rfl)
theorem dX2_putType_46 : decode cX2_putType 46 = .ok (.goto 194, 3) := dk_167 0 194 (dk_at dksX2_putType_2 0 rfl rfl)
theorem dX2_putType_49 : decode cX2_putType 49 = .ok (.aload_n 3, 1) := dk_45 (dk_at dksX2_putType_2 3 rfl rfl)
theorem dX2_putType_50 : decode cX2_putType 50 = .ok (.getfield 118, 3) := dk_180 0 118 (dk_at dksX2_putType_2 4 rfl rfl)
theorem dX2_putType_53 : decode cX2_putType 53 = .ok (.iconst 2, 1) := dk_5 (dk_at dksX2_putType_2 7 rfl rfl)
theorem dX2_putType_54 : decode cX2_putType 54 = .ok (.if_icmp .ne 42, 3) := dk_160 0 42 (dk_at dksX2_putType_2 8 rfl rfl)
theorem dX2_putType_57 : decode cX2_putType 57 = .ok (.aload_n 1, 1) := dk_43 (dk_at dksX2_putType_2 11 rfl rfl)
theorem dX2_putType_58 : decode cX2_putType 58 = .ok (.bipush 40, 2) := dk_16 40 (dk_at dksX2_putType_2 12 rfl rfl)
theorem dX2_putType_60 : decode cX2_putType 60 = .ok (.invokestatic 308, 3) := dk_184 1 52 (dk_at dksX2_putType_2 14 rfl rfl)
theorem dX2_putType_63 : decode cX2_putType 63 = .ok (.aload_n 3, 1) := dk_45 (dk_at dksX2_putType_2 17 rfl rfl)
theorem dX2_putType_64 : decode cX2_putType 64 = .ok (.getfield 81, 3) := dk_180 0 81 (dk_at dksX2_putType_2 18 rfl rfl)
theorem dX2_putType_67 : decode cX2_putType 67 = .ok (.aload_n 1, 1) := dk_43 (dk_at dksX2_putType_2 21 rfl rfl)
theorem dX2_putType_68 : decode cX2_putType 68 = .ok (.aload_n 2, 1) := dk_44 (dk_at dksX2_putType_2 22 rfl rfl)
theorem dX2_putType_69 : decode cX2_putType 69 = .ok (.invokestatic 316, 3) := dk_184 1 60 (dk_at dksX2_putType_3 0 rfl rfl)
theorem dX2_putType_72 : decode cX2_putType 72 = .ok (.aload_n 1, 1) := dk_43 (dk_at dksX2_putType_3 3 rfl rfl)
theorem dX2_putType_73 : decode cX2_putType 73 = .ok (.bipush 62, 2) := dk_16 62 (dk_at dksX2_putType_3 4 rfl rfl)
theorem dX2_putType_75 : decode cX2_putType 75 = .ok (.invokestatic 308, 3) := dk_184 1 52 (dk_at dksX2_putType_3 6 rfl rfl)
theorem dX2_putType_78 : decode cX2_putType 78 = .ok (.aload_n 3, 1) := dk_45 (dk_at dksX2_putType_3 9 rfl rfl)
theorem dX2_putType_79 : decode cX2_putType 79 = .ok (.getfield 85, 3) := dk_180 0 85 (dk_at dksX2_putType_3 10 rfl rfl)
theorem dX2_putType_82 : decode cX2_putType 82 = .ok (.aload_n 1, 1) := dk_43 (dk_at dksX2_putType_3 13 rfl rfl)
theorem dX2_putType_83 : decode cX2_putType 83 = .ok (.aload_n 2, 1) := dk_44 (dk_at dksX2_putType_3 14 rfl rfl)
theorem dX2_putType_84 : decode cX2_putType 84 = .ok (.invokestatic 316, 3) := dk_184 1 60 (dk_at dksX2_putType_3 15 rfl rfl)
theorem dX2_putType_87 : decode cX2_putType 87 = .ok (.aload_n 1, 1) := dk_43 (dk_at dksX2_putType_3 18 rfl rfl)
theorem dX2_putType_88 : decode cX2_putType 88 = .ok (.bipush 41, 2) := dk_16 41 (dk_at dksX2_putType_3 19 rfl rfl)
theorem dX2_putType_90 : decode cX2_putType 90 = .ok (.invokestatic 308, 3) := dk_184 1 52 (dk_at dksX2_putType_3 21 rfl rfl)
theorem dX2_putType_93 : decode cX2_putType 93 = .ok (.goto 147, 3) := dk_167 0 147 (dk_at dksX2_putType_4 0 rfl rfl)
theorem dX2_putType_96 : decode cX2_putType 96 = .ok (.aload_n 1, 1) := dk_43 (dk_at dksX2_putType_4 3 rfl rfl)
theorem dX2_putType_97 : decode cX2_putType 97 = .ok (.aload_n 3, 1) := dk_45 (dk_at dksX2_putType_4 4 rfl rfl)
theorem dX2_putType_98 : decode cX2_putType 98 = .ok (.getfield 118, 3) := dk_180 0 118 (dk_at dksX2_putType_4 5 rfl rfl)
theorem dX2_putType_101 : decode cX2_putType 101 = .ok (.iconst 3, 1) := dk_6 (dk_at dksX2_putType_4 8 rfl rfl)
theorem dX2_putType_102 : decode cX2_putType 102 = .ok (.if_icmp .ne 8, 3) := dk_160 0 8 (dk_at dksX2_putType_4 9 rfl rfl)
theorem dX2_putType_105 : decode cX2_putType 105 = .ok (.bipush 123, 2) := dk_16 123 (dk_at dksX2_putType_4 12 rfl rfl)
theorem dX2_putType_107 : decode cX2_putType 107 = .ok (.goto 5, 3) := dk_167 0 5 (dk_at dksX2_putType_4 14 rfl rfl)
theorem dX2_putType_110 : decode cX2_putType 110 = .ok (.bipush 91, 2) := dk_16 91 (dk_at dksX2_putType_4 17 rfl rfl)
theorem dX2_putType_112 : decode cX2_putType 112 = .ok (.invokestatic 308, 3) := dk_184 1 52 (dk_at dksX2_putType_4 19 rfl rfl)
theorem dX2_putType_115 : decode cX2_putType 115 = .ok (.bipush 10, 2) := dk_16 10 (dk_at dksX2_putType_4 22 rfl rfl)
theorem dX2_putType_117 : decode cX2_putType 117 = .ok (.anewarray 76, 3) := dk_189 0 76 (dk_at dksX2_putType_5 0 rfl rfl)
theorem dX2_putType_120 : decode cX2_putType 120 = .ok (.astore 4, 2) := dk_58 4 (dk_at dksX2_putType_5 3 rfl rfl)
theorem dX2_putType_122 : decode cX2_putType 122 = .ok (.aload_n 3, 1) := dk_45 (dk_at dksX2_putType_5 5 rfl rfl)
theorem dX2_putType_123 : decode cX2_putType 123 = .ok (.getfield 88, 3) := dk_180 0 88 (dk_at dksX2_putType_5 6 rfl rfl)
theorem dX2_putType_126 : decode cX2_putType 126 = .ok (.aload 4, 2) := dk_25 4 (dk_at dksX2_putType_5 9 rfl rfl)
theorem dX2_putType_128 : decode cX2_putType 128 = .ok (.invokestatic 171, 3) := dk_184 0 171 (dk_at dksX2_putType_5 11 rfl rfl)
theorem dX2_putType_131 : decode cX2_putType 131 = .ok (.astore 5, 2) := dk_58 5 (dk_at dksX2_putType_5 14 rfl rfl)
theorem dX2_putType_133 : decode cX2_putType 133 = .ok (.iconst 0, 1) := dk_3 (dk_at dksX2_putType_5 16 rfl rfl)
theorem dX2_putType_134 : decode cX2_putType 134 = .ok (.istore 6, 2) := dk_54 6 (dk_at dksX2_putType_5 17 rfl rfl)
theorem dX2_putType_136 : decode cX2_putType 136 = .ok (.iconst 0, 1) := dk_3 (dk_at dksX2_putType_5 19 rfl rfl)
theorem dX2_putType_137 : decode cX2_putType 137 = .ok (.istore 7, 2) := dk_54 7 (dk_at dksX2_putType_5 20 rfl rfl)
theorem dX2_putType_139 : decode cX2_putType 139 = .ok (.iload 7, 2) := dk_21 7 (dk_at dksX2_putType_5 22 rfl rfl)
theorem dX2_putType_141 : decode cX2_putType 141 = .ok (.bipush 10, 2) := dk_16 10 (dk_at dksX2_putType_6 0 rfl rfl)
theorem dX2_putType_143 : decode cX2_putType 143 = .ok (.if_icmp .ge 57, 3) := dk_162 0 57 (dk_at dksX2_putType_6 2 rfl rfl)
theorem dX2_putType_146 : decode cX2_putType 146 = .ok (.aload 4, 2) := dk_25 4 (dk_at dksX2_putType_6 5 rfl rfl)
theorem dX2_putType_148 : decode cX2_putType 148 = .ok (.iload 7, 2) := dk_21 7 (dk_at dksX2_putType_6 7 rfl rfl)
theorem dX2_putType_150 : decode cX2_putType 150 = .ok (.aaload, 1) := dk_50 (dk_at dksX2_putType_6 9 rfl rfl)
theorem dX2_putType_151 : decode cX2_putType 151 = .ok (.ifnull 43, 3) := dk_198 0 43 (dk_at dksX2_putType_6 10 rfl rfl)
theorem dX2_putType_154 : decode cX2_putType 154 = .ok (.iload 6, 2) := dk_21 6 (dk_at dksX2_putType_6 13 rfl rfl)
theorem dX2_putType_156 : decode cX2_putType 156 = .ok (.ifCond .eq 9, 3) := dk_153 0 9 (dk_at dksX2_putType_6 15 rfl rfl)
theorem dX2_putType_159 : decode cX2_putType 159 = .ok (.aload_n 1, 1) := dk_43 (dk_at dksX2_putType_6 18 rfl rfl)
theorem dX2_putType_160 : decode cX2_putType 160 = .ok (.bipush 44, 2) := dk_16 44 (dk_at dksX2_putType_6 19 rfl rfl)
theorem dX2_putType_162 : decode cX2_putType 162 = .ok (.invokestatic 308, 3) := dk_184 1 52 (dk_at dksX2_putType_6 21 rfl rfl)
theorem dX2_putType_165 : decode cX2_putType 165 = .ok (.iconst 1, 1) := dk_4 (dk_at dksX2_putType_7 0 rfl rfl)
theorem dX2_putType_166 : decode cX2_putType 166 = .ok (.istore 6, 2) := dk_54 6 (dk_at dksX2_putType_7 1 rfl rfl)
theorem dX2_putType_168 : decode cX2_putType 168 = .ok (.aload_n 1, 1) := dk_43 (dk_at dksX2_putType_7 3 rfl rfl)
theorem dX2_putType_169 : decode cX2_putType 169 = .ok (.bipush 48, 2) := dk_16 48 (dk_at dksX2_putType_7 4 rfl rfl)
theorem dX2_putType_171 : decode cX2_putType 171 = .ok (.iload 7, 2) := dk_21 7 (dk_at dksX2_putType_7 6 rfl rfl)
theorem dX2_putType_173 : decode cX2_putType 173 = .ok (.iadd, 1) := dk_96 (dk_at dksX2_putType_7 8 rfl rfl)
theorem dX2_putType_174 : decode cX2_putType 174 = .ok (.i2c, 1) := dk_146 (dk_at dksX2_putType_7 9 rfl rfl)
theorem dX2_putType_175 : decode cX2_putType 175 = .ok (.invokestatic 308, 3) := dk_184 1 52 (dk_at dksX2_putType_7 10 rfl rfl)
theorem dX2_putType_178 : decode cX2_putType 178 = .ok (.aload_n 1, 1) := dk_43 (dk_at dksX2_putType_7 13 rfl rfl)
theorem dX2_putType_179 : decode cX2_putType 179 = .ok (.bipush 58, 2) := dk_16 58 (dk_at dksX2_putType_7 14 rfl rfl)
theorem dX2_putType_181 : decode cX2_putType 181 = .ok (.invokestatic 308, 3) := dk_184 1 52 (dk_at dksX2_putType_7 16 rfl rfl)
theorem dX2_putType_184 : decode cX2_putType 184 = .ok (.aload 4, 2) := dk_25 4 (dk_at dksX2_putType_7 19 rfl rfl)
theorem dX2_putType_186 : decode cX2_putType 186 = .ok (.iload 7, 2) := dk_21 7 (dk_at dksX2_putType_7 21 rfl rfl)
theorem dX2_putType_188 : decode cX2_putType 188 = .ok (.aaload, 1) := dk_50 (dk_at dksX2_putType_7 23 rfl rfl)
theorem dX2_putType_189 : decode cX2_putType 189 = .ok (.aload_n 1, 1) := dk_43 (dk_at dksX2_putType_8 0 rfl rfl)
theorem dX2_putType_190 : decode cX2_putType 190 = .ok (.aload_n 2, 1) := dk_44 (dk_at dksX2_putType_8 1 rfl rfl)
theorem dX2_putType_191 : decode cX2_putType 191 = .ok (.invokestatic 316, 3) := dk_184 1 60 (dk_at dksX2_putType_8 2 rfl rfl)
theorem dX2_putType_194 : decode cX2_putType 194 = .ok (.iinc 7 1, 3) := dk_132 7 1 (dk_at dksX2_putType_8 5 rfl rfl)
theorem dX2_putType_197 : decode cX2_putType 197 = .ok (.goto (-58), 3) := dk_167 255 198 (dk_at dksX2_putType_8 8 rfl rfl)
theorem dX2_putType_200 : decode cX2_putType 200 = .ok (.aload 5, 2) := dk_25 5 (dk_at dksX2_putType_8 11 rfl rfl)
theorem dX2_putType_202 : decode cX2_putType 202 = .ok (.getfield 131, 3) := dk_180 0 131 (dk_at dksX2_putType_8 13 rfl rfl)
theorem dX2_putType_205 : decode cX2_putType 205 = .ok (.ifCond .ne 16, 3) := dk_154 0 16 (dk_at dksX2_putType_8 16 rfl rfl)
theorem dX2_putType_208 : decode cX2_putType 208 = .ok (.aload_n 1, 1) := dk_43 (dk_at dksX2_putType_8 19 rfl rfl)
theorem dX2_putType_209 : decode cX2_putType 209 = .ok (.bipush 124, 2) := dk_16 124 (dk_at dksX2_putType_8 20 rfl rfl)
theorem dX2_putType_211 : decode cX2_putType 211 = .ok (.invokestatic 308, 3) := dk_184 1 52 (dk_at dksX2_putType_9 0 rfl rfl)
theorem dX2_putType_214 : decode cX2_putType 214 = .ok (.aload 5, 2) := dk_25 5 (dk_at dksX2_putType_9 3 rfl rfl)
theorem dX2_putType_216 : decode cX2_putType 216 = .ok (.aload_n 1, 1) := dk_43 (dk_at dksX2_putType_9 5 rfl rfl)
theorem dX2_putType_217 : decode cX2_putType 217 = .ok (.aload_n 2, 1) := dk_44 (dk_at dksX2_putType_9 6 rfl rfl)
theorem dX2_putType_218 : decode cX2_putType 218 = .ok (.invokestatic 312, 3) := dk_184 1 56 (dk_at dksX2_putType_9 7 rfl rfl)
theorem dX2_putType_221 : decode cX2_putType 221 = .ok (.aload_n 1, 1) := dk_43 (dk_at dksX2_putType_9 10 rfl rfl)
theorem dX2_putType_222 : decode cX2_putType 222 = .ok (.aload_n 3, 1) := dk_45 (dk_at dksX2_putType_9 11 rfl rfl)
theorem dX2_putType_223 : decode cX2_putType 223 = .ok (.getfield 118, 3) := dk_180 0 118 (dk_at dksX2_putType_9 12 rfl rfl)
theorem dX2_putType_226 : decode cX2_putType 226 = .ok (.iconst 3, 1) := dk_6 (dk_at dksX2_putType_9 15 rfl rfl)
theorem dX2_putType_227 : decode cX2_putType 227 = .ok (.if_icmp .ne 8, 3) := dk_160 0 8 (dk_at dksX2_putType_9 16 rfl rfl)
theorem dX2_putType_230 : decode cX2_putType 230 = .ok (.bipush 125, 2) := dk_16 125 (dk_at dksX2_putType_9 19 rfl rfl)
theorem dX2_putType_232 : decode cX2_putType 232 = .ok (.goto 5, 3) := dk_167 0 5 (dk_at dksX2_putType_9 21 rfl rfl)
theorem dX2_putType_235 : decode cX2_putType 235 = .ok (.bipush 93, 2) := dk_16 93 (dk_at dksX2_putType_10 0 rfl rfl)
theorem dX2_putType_237 : decode cX2_putType 237 = .ok (.invokestatic 308, 3) := dk_184 1 52 (dk_at dksX2_putType_10 2 rfl rfl)
theorem dX2_putType_240 : decode cX2_putType 240 = .ok (.return_, 1) := dk_177 (dk_at dksX2_putType_10 5 rfl rfl)
abbrev cX2_put : ByteArray := prog_45_method_43_code
def yX2_put : MethodName := ⟨RX2, "put", "(Ljava/lang/StringBuilder;C)V"⟩
def dkwX2_put_0 : List UInt8 := [42, 182, 1, 39, 17, 1, 44, 162, 0, 9, 42, 27, 182, 1, 44, 87, 177]
abbrev dktX2_put_0 : List UInt8 := dkwX2_put_0 ++ []
theorem dksX2_put_0 : cX2_put.data.toList.drop 0 = dktX2_put_0 := by decide +kernel
theorem dX2_put_0 : decode cX2_put 0 = .ok (.aload_n 0, 1) := dk_42 (dk_at dksX2_put_0 0 rfl rfl)
theorem dX2_put_1 : decode cX2_put 1 = .ok (.invokevirtual 295, 3) := dk_182 1 39 (dk_at dksX2_put_0 1 rfl rfl)
theorem dX2_put_4 : decode cX2_put 4 = .ok (.sipush 300, 3) := dk_17 1 44 (dk_at dksX2_put_0 4 rfl rfl)
theorem dX2_put_7 : decode cX2_put 7 = .ok (.if_icmp .ge 9, 3) := dk_162 0 9 (dk_at dksX2_put_0 7 rfl rfl)
theorem dX2_put_10 : decode cX2_put 10 = .ok (.aload_n 0, 1) := dk_42 (dk_at dksX2_put_0 10 rfl rfl)
theorem dX2_put_11 : decode cX2_put 11 = .ok (.iload_n 1, 1) := dk_27 (dk_at dksX2_put_0 11 rfl rfl)
theorem dX2_put_12 : decode cX2_put 12 = .ok (.invokevirtual 300, 3) := dk_182 1 44 (dk_at dksX2_put_0 12 rfl rfl)
theorem dX2_put_15 : decode cX2_put 15 = .ok (.pop, 1) := dk_87 (dk_at dksX2_put_0 15 rfl rfl)
theorem dX2_put_16 : decode cX2_put 16 = .ok (.return_, 1) := dk_177 (dk_at dksX2_put_0 16 rfl rfl)
abbrev cX2_putVariable : ByteArray := prog_45_method_45_code
def yX2_putVariable : MethodName := ⟨RX2, "putVariable", "(Ljava/lang/Object;Ljava/lang/StringBuilder;Ljava/util/ArrayList;)V"⟩
def dkwX2_putVariable_1 : List UInt8 := [184, 1, 48, 184, 1, 52, 177]
abbrev dktX2_putVariable_1 : List UInt8 := dkwX2_putVariable_1 ++ []
def dkwX2_putVariable_0 : List UInt8 := [44, 42, 182, 0, 254, 62, 29, 156, 0, 14, 44, 182, 0, 215, 62, 44, 42, 182, 0, 191, 87, 43, 29]
abbrev dktX2_putVariable_0 : List UInt8 := dkwX2_putVariable_0 ++ dktX2_putVariable_1
theorem dksX2_putVariable_0 : cX2_putVariable.data.toList.drop 0 = dktX2_putVariable_0 := by decide +kernel
theorem dksX2_putVariable_1 : cX2_putVariable.data.toList.drop 23 = dktX2_putVariable_1 := dk_seg dksX2_putVariable_0 23 rfl rfl
theorem dX2_putVariable_0 : decode cX2_putVariable 0 = .ok (.aload_n 2, 1) := dk_44 (dk_at dksX2_putVariable_0 0 rfl rfl)
theorem dX2_putVariable_1 : decode cX2_putVariable 1 = .ok (.aload_n 0, 1) := dk_42 (dk_at dksX2_putVariable_0 1 rfl rfl)
theorem dX2_putVariable_2 : decode cX2_putVariable 2 = .ok (.invokevirtual 254, 3) := dk_182 0 254 (dk_at dksX2_putVariable_0 2 rfl rfl)
theorem dX2_putVariable_5 : decode cX2_putVariable 5 = .ok (.istore_n 3, 1) := dk_62 (dk_at dksX2_putVariable_0 5 rfl rfl)
theorem dX2_putVariable_6 : decode cX2_putVariable 6 = .ok (.iload_n 3, 1) := dk_29 (dk_at dksX2_putVariable_0 6 rfl rfl)
theorem dX2_putVariable_7 : decode cX2_putVariable 7 = .ok (.ifCond .ge 14, 3) := dk_156 0 14 (dk_at dksX2_putVariable_0 7 rfl rfl)
theorem dX2_putVariable_10 : decode cX2_putVariable 10 = .ok (.aload_n 2, 1) := dk_44 (dk_at dksX2_putVariable_0 10 rfl rfl)
theorem dX2_putVariable_11 : decode cX2_putVariable 11 = .ok (.invokevirtual 215, 3) := dk_182 0 215 (dk_at dksX2_putVariable_0 11 rfl rfl)
theorem dX2_putVariable_14 : decode cX2_putVariable 14 = .ok (.istore_n 3, 1) := dk_62 (dk_at dksX2_putVariable_0 14 rfl rfl)
theorem dX2_putVariable_15 : decode cX2_putVariable 15 = .ok (.aload_n 2, 1) := dk_44 (dk_at dksX2_putVariable_0 15 rfl rfl)
theorem dX2_putVariable_16 : decode cX2_putVariable 16 = .ok (.aload_n 0, 1) := dk_42 (dk_at dksX2_putVariable_0 16 rfl rfl)
theorem dX2_putVariable_17 : decode cX2_putVariable 17 = .ok (.invokevirtual 191, 3) := dk_182 0 191 (dk_at dksX2_putVariable_0 17 rfl rfl)
theorem dX2_putVariable_20 : decode cX2_putVariable 20 = .ok (.pop, 1) := dk_87 (dk_at dksX2_putVariable_0 20 rfl rfl)
theorem dX2_putVariable_21 : decode cX2_putVariable 21 = .ok (.aload_n 1, 1) := dk_43 (dk_at dksX2_putVariable_0 21 rfl rfl)
theorem dX2_putVariable_22 : decode cX2_putVariable 22 = .ok (.iload_n 3, 1) := dk_29 (dk_at dksX2_putVariable_0 22 rfl rfl)
theorem dX2_putVariable_23 : decode cX2_putVariable 23 = .ok (.invokestatic 304, 3) := dk_184 1 48 (dk_at dksX2_putVariable_1 0 rfl rfl)
theorem dX2_putVariable_26 : decode cX2_putVariable 26 = .ok (.invokestatic 308, 3) := dk_184 1 52 (dk_at dksX2_putVariable_1 3 rfl rfl)
theorem dX2_putVariable_29 : decode cX2_putVariable 29 = .ok (.return_, 1) := dk_177 (dk_at dksX2_putVariable_1 6 rfl rfl)
abbrev cX2_letterOf : ByteArray := prog_45_method_44_code
def yX2_letterOf : MethodName := ⟨RX2, "letterOf", "(I)C"⟩
def dkwX2_letterOf_1 : List UInt8 := [16, 26, 100, 146, 167, 0, 5, 16, 63, 172]
abbrev dktX2_letterOf_1 : List UInt8 := dkwX2_letterOf_1 ++ []
def dkwX2_letterOf_0 : List UInt8 := [26, 16, 26, 162, 0, 11, 16, 97, 26, 96, 146, 167, 0, 22, 26, 16, 52, 162, 0, 14, 16, 65, 26, 96]
abbrev dktX2_letterOf_0 : List UInt8 := dkwX2_letterOf_0 ++ dktX2_letterOf_1
theorem dksX2_letterOf_0 : cX2_letterOf.data.toList.drop 0 = dktX2_letterOf_0 := by decide +kernel
theorem dksX2_letterOf_1 : cX2_letterOf.data.toList.drop 24 = dktX2_letterOf_1 := dk_seg dksX2_letterOf_0 24 rfl rfl
theorem dX2_letterOf_0 : decode cX2_letterOf 0 = .ok (.iload_n 0, 1) := dk_26 (dk_at dksX2_letterOf_0 0 rfl rfl)
theorem dX2_letterOf_1 : decode cX2_letterOf 1 = .ok (.bipush 26, 2) := dk_16 26 (dk_at dksX2_letterOf_0 1 rfl rfl)
theorem dX2_letterOf_3 : decode cX2_letterOf 3 = .ok (.if_icmp .ge 11, 3) := dk_162 0 11 (dk_at dksX2_letterOf_0 3 rfl rfl)
theorem dX2_letterOf_6 : decode cX2_letterOf 6 = .ok (.bipush 97, 2) := dk_16 97 (dk_at dksX2_letterOf_0 6 rfl rfl)
theorem dX2_letterOf_8 : decode cX2_letterOf 8 = .ok (.iload_n 0, 1) := dk_26 (dk_at dksX2_letterOf_0 8 rfl rfl)
theorem dX2_letterOf_9 : decode cX2_letterOf 9 = .ok (.iadd, 1) := dk_96 (dk_at dksX2_letterOf_0 9 rfl rfl)
theorem dX2_letterOf_10 : decode cX2_letterOf 10 = .ok (.i2c, 1) := dk_146 (dk_at dksX2_letterOf_0 10 rfl rfl)
theorem dX2_letterOf_11 : decode cX2_letterOf 11 = .ok (.goto 22, 3) := dk_167 0 22 (dk_at dksX2_letterOf_0 11 rfl rfl)
theorem dX2_letterOf_14 : decode cX2_letterOf 14 = .ok (.iload_n 0, 1) := dk_26 (dk_at dksX2_letterOf_0 14 rfl rfl)
theorem dX2_letterOf_15 : decode cX2_letterOf 15 = .ok (.bipush 52, 2) := dk_16 52 (dk_at dksX2_letterOf_0 15 rfl rfl)
theorem dX2_letterOf_17 : decode cX2_letterOf 17 = .ok (.if_icmp .ge 14, 3) := dk_162 0 14 (dk_at dksX2_letterOf_0 17 rfl rfl)
theorem dX2_letterOf_20 : decode cX2_letterOf 20 = .ok (.bipush 65, 2) := dk_16 65 (dk_at dksX2_letterOf_0 20 rfl rfl)
theorem dX2_letterOf_22 : decode cX2_letterOf 22 = .ok (.iload_n 0, 1) := dk_26 (dk_at dksX2_letterOf_0 22 rfl rfl)
theorem dX2_letterOf_23 : decode cX2_letterOf 23 = .ok (.iadd, 1) := dk_96 (dk_at dksX2_letterOf_0 23 rfl rfl)
theorem dX2_letterOf_24 : decode cX2_letterOf 24 = .ok (.bipush 26, 2) := dk_16 26 (dk_at dksX2_letterOf_1 0 rfl rfl)
theorem dX2_letterOf_26 : decode cX2_letterOf 26 = .ok (.isub, 1) := dk_100 (dk_at dksX2_letterOf_1 2 rfl rfl)
theorem dX2_letterOf_27 : decode cX2_letterOf 27 = .ok (.i2c, 1) := dk_146 (dk_at dksX2_letterOf_1 3 rfl rfl)
theorem dX2_letterOf_28 : decode cX2_letterOf 28 = .ok (.goto 5, 3) := dk_167 0 5 (dk_at dksX2_letterOf_1 4 rfl rfl)
theorem dX2_letterOf_31 : decode cX2_letterOf 31 = .ok (.bipush 63, 2) := dk_16 63 (dk_at dksX2_letterOf_1 7 rfl rfl)
theorem dX2_letterOf_33 : decode cX2_letterOf 33 = .ok (.ireturn, 1) := dk_172 (dk_at dksX2_letterOf_1 9 rfl rfl)
abbrev cX2_sign : ByteArray := prog_45_method_50_code
def yX2_sign : MethodName := ⟨RX2, "sign", "(II)C"⟩
def dkwX2_sign_3 : List UInt8 := [16, 32, 172]
abbrev dktX2_sign_3 : List UInt8 := dkwX2_sign_3 ++ []
def dkwX2_sign_2 : List UInt8 := [182, 0, 59, 153, 0, 21, 28, 25, 4, 182, 1, 77, 162, 0, 12, 25, 4, 28, 182, 1, 80, 167, 0, 5]
abbrev dktX2_sign_2 : List UInt8 := dkwX2_sign_2 ++ dktX2_sign_3
def dkwX2_sign_1 : List UInt8 := [182, 1, 73, 167, 0, 4, 1, 58, 4, 42, 29, 25, 4, 198, 0, 7, 4, 167, 0, 4, 3, 4]
abbrev dktX2_sign_1 : List UInt8 := dkwX2_sign_1 ++ dktX2_sign_2
def dkwX2_sign_0 : List UInt8 := [42, 27, 182, 0, 51, 153, 0, 11, 28, 155, 0, 7, 4, 167, 0, 4, 3, 62, 29, 153, 0, 11, 42, 27]
abbrev dktX2_sign_0 : List UInt8 := dkwX2_sign_0 ++ dktX2_sign_1
theorem dksX2_sign_0 : cX2_sign.data.toList.drop 0 = dktX2_sign_0 := by decide +kernel
theorem dksX2_sign_1 : cX2_sign.data.toList.drop 24 = dktX2_sign_1 := dk_seg dksX2_sign_0 24 rfl rfl
theorem dksX2_sign_2 : cX2_sign.data.toList.drop 46 = dktX2_sign_2 := dk_seg dksX2_sign_1 22 rfl rfl
theorem dksX2_sign_3 : cX2_sign.data.toList.drop 70 = dktX2_sign_3 := dk_seg dksX2_sign_2 24 rfl rfl
theorem dX2_sign_0 : decode cX2_sign 0 = .ok (.aload_n 0, 1) := dk_42 (dk_at dksX2_sign_0 0 rfl rfl)
theorem dX2_sign_1 : decode cX2_sign 1 = .ok (.iload_n 1, 1) := dk_27 (dk_at dksX2_sign_0 1 rfl rfl)
theorem dX2_sign_2 : decode cX2_sign 2 = .ok (.invokevirtual 51, 3) := dk_182 0 51 (dk_at dksX2_sign_0 2 rfl rfl)
theorem dX2_sign_5 : decode cX2_sign 5 = .ok (.ifCond .eq 11, 3) := dk_153 0 11 (dk_at dksX2_sign_0 5 rfl rfl)
theorem dX2_sign_8 : decode cX2_sign 8 = .ok (.iload_n 2, 1) := dk_28 (dk_at dksX2_sign_0 8 rfl rfl)
theorem dX2_sign_9 : decode cX2_sign 9 = .ok (.ifCond .lt 7, 3) := dk_155 0 7 (dk_at dksX2_sign_0 9 rfl rfl)
theorem dX2_sign_12 : decode cX2_sign 12 = .ok (.iconst 1, 1) := dk_4 (dk_at dksX2_sign_0 12 rfl rfl)
theorem dX2_sign_13 : decode cX2_sign 13 = .ok (.goto 4, 3) := dk_167 0 4 (dk_at dksX2_sign_0 13 rfl rfl)
theorem dX2_sign_16 : decode cX2_sign 16 = .ok (.iconst 0, 1) := dk_3 (dk_at dksX2_sign_0 16 rfl rfl)
theorem dX2_sign_17 : decode cX2_sign 17 = .ok (.istore_n 3, 1) := dk_62 (dk_at dksX2_sign_0 17 rfl rfl)
theorem dX2_sign_18 : decode cX2_sign 18 = .ok (.iload_n 3, 1) := dk_29 (dk_at dksX2_sign_0 18 rfl rfl)
theorem dX2_sign_19 : decode cX2_sign 19 = .ok (.ifCond .eq 11, 3) := dk_153 0 11 (dk_at dksX2_sign_0 19 rfl rfl)
theorem dX2_sign_22 : decode cX2_sign 22 = .ok (.aload_n 0, 1) := dk_42 (dk_at dksX2_sign_0 22 rfl rfl)
theorem dX2_sign_23 : decode cX2_sign 23 = .ok (.iload_n 1, 1) := dk_27 (dk_at dksX2_sign_0 23 rfl rfl)
theorem dX2_sign_24 : decode cX2_sign 24 = .ok (.invokevirtual 329, 3) := dk_182 1 73 (dk_at dksX2_sign_1 0 rfl rfl)
theorem dX2_sign_27 : decode cX2_sign 27 = .ok (.goto 4, 3) := dk_167 0 4 (dk_at dksX2_sign_1 3 rfl rfl)
theorem dX2_sign_30 : decode cX2_sign 30 = .ok (.aconst_null, 1) := dk_1 (dk_at dksX2_sign_1 6 rfl rfl)
theorem dX2_sign_31 : decode cX2_sign 31 = .ok (.astore 4, 2) := dk_58 4 (dk_at dksX2_sign_1 7 rfl rfl)
theorem dX2_sign_33 : decode cX2_sign 33 = .ok (.aload_n 0, 1) := dk_42 (dk_at dksX2_sign_1 9 rfl rfl)
theorem dX2_sign_34 : decode cX2_sign 34 = .ok (.iload_n 3, 1) := dk_29 (dk_at dksX2_sign_1 10 rfl rfl)
theorem dX2_sign_35 : decode cX2_sign 35 = .ok (.aload 4, 2) := dk_25 4 (dk_at dksX2_sign_1 11 rfl rfl)
theorem dX2_sign_37 : decode cX2_sign 37 = .ok (.ifnull 7, 3) := dk_198 0 7 (dk_at dksX2_sign_1 13 rfl rfl)
theorem dX2_sign_40 : decode cX2_sign 40 = .ok (.iconst 1, 1) := dk_4 (dk_at dksX2_sign_1 16 rfl rfl)
theorem dX2_sign_41 : decode cX2_sign 41 = .ok (.goto 4, 3) := dk_167 0 4 (dk_at dksX2_sign_1 17 rfl rfl)
theorem dX2_sign_44 : decode cX2_sign 44 = .ok (.iconst 0, 1) := dk_3 (dk_at dksX2_sign_1 20 rfl rfl)
theorem dX2_sign_45 : decode cX2_sign 45 = .ok (.iconst 1, 1) := dk_4 (dk_at dksX2_sign_1 21 rfl rfl)
theorem dX2_sign_46 : decode cX2_sign 46 = .ok (.invokevirtual 59, 3) := dk_182 0 59 (dk_at dksX2_sign_2 0 rfl rfl)
theorem dX2_sign_49 : decode cX2_sign 49 = .ok (.ifCond .eq 21, 3) := dk_153 0 21 (dk_at dksX2_sign_2 3 rfl rfl)
theorem dX2_sign_52 : decode cX2_sign 52 = .ok (.iload_n 2, 1) := dk_28 (dk_at dksX2_sign_2 6 rfl rfl)
theorem dX2_sign_53 : decode cX2_sign 53 = .ok (.aload 4, 2) := dk_25 4 (dk_at dksX2_sign_2 7 rfl rfl)
theorem dX2_sign_55 : decode cX2_sign 55 = .ok (.invokevirtual 333, 3) := dk_182 1 77 (dk_at dksX2_sign_2 9 rfl rfl)
theorem dX2_sign_58 : decode cX2_sign 58 = .ok (.if_icmp .ge 12, 3) := dk_162 0 12 (dk_at dksX2_sign_2 12 rfl rfl)
theorem dX2_sign_61 : decode cX2_sign 61 = .ok (.aload 4, 2) := dk_25 4 (dk_at dksX2_sign_2 15 rfl rfl)
theorem dX2_sign_63 : decode cX2_sign 63 = .ok (.iload_n 2, 1) := dk_28 (dk_at dksX2_sign_2 17 rfl rfl)
theorem dX2_sign_64 : decode cX2_sign 64 = .ok (.invokevirtual 336, 3) := dk_182 1 80 (dk_at dksX2_sign_2 18 rfl rfl)
theorem dX2_sign_67 : decode cX2_sign 67 = .ok (.goto 5, 3) := dk_167 0 5 (dk_at dksX2_sign_2 21 rfl rfl)
theorem dX2_sign_70 : decode cX2_sign 70 = .ok (.bipush 32, 2) := dk_16 32 (dk_at dksX2_sign_3 0 rfl rfl)
theorem dX2_sign_72 : decode cX2_sign 72 = .ok (.ireturn, 1) := dk_172 (dk_at dksX2_sign_3 2 rfl rfl)
abbrev cX2_areAlike : ByteArray := prog_45_method_51_code
def yX2_areAlike : MethodName := ⟨RX2, "areAlike", "(II)Z"⟩
def dkwX2_areAlike_3 : List UInt8 := [182, 0, 59, 153, 0, 17, 25, 4, 25, 5, 182, 1, 83, 153, 0, 7, 4, 167, 0, 4, 3, 172]
abbrev dktX2_areAlike_3 : List UInt8 := dkwX2_areAlike_3 ++ []
def dkwX2_areAlike_2 : List UInt8 := [167, 0, 4, 1, 58, 5, 42, 29, 25, 4, 198, 0, 12, 25, 5, 198, 0, 7, 4, 167, 0, 4, 3, 4]
abbrev dktX2_areAlike_2 : List UInt8 := dkwX2_areAlike_2 ++ dktX2_areAlike_3
def dkwX2_areAlike_1 : List UInt8 := [153, 0, 11, 42, 27, 182, 1, 73, 167, 0, 4, 1, 58, 4, 29, 153, 0, 11, 42, 28, 182, 1, 73]
abbrev dktX2_areAlike_1 : List UInt8 := dkwX2_areAlike_1 ++ dktX2_areAlike_2
def dkwX2_areAlike_0 : List UInt8 := [42, 27, 182, 0, 51, 153, 0, 15, 42, 28, 182, 0, 51, 153, 0, 7, 4, 167, 0, 4, 3, 62, 29]
abbrev dktX2_areAlike_0 : List UInt8 := dkwX2_areAlike_0 ++ dktX2_areAlike_1
theorem dksX2_areAlike_0 : cX2_areAlike.data.toList.drop 0 = dktX2_areAlike_0 := by decide +kernel
theorem dksX2_areAlike_1 : cX2_areAlike.data.toList.drop 23 = dktX2_areAlike_1 := dk_seg dksX2_areAlike_0 23 rfl rfl
theorem dksX2_areAlike_2 : cX2_areAlike.data.toList.drop 46 = dktX2_areAlike_2 := dk_seg dksX2_areAlike_1 23 rfl rfl
theorem dksX2_areAlike_3 : cX2_areAlike.data.toList.drop 70 = dktX2_areAlike_3 := dk_seg dksX2_areAlike_2 24 rfl rfl
theorem dX2_areAlike_0 : decode cX2_areAlike 0 = .ok (.aload_n 0, 1) := dk_42 (dk_at dksX2_areAlike_0 0 rfl rfl)
theorem dX2_areAlike_1 : decode cX2_areAlike 1 = .ok (.iload_n 1, 1) := dk_27 (dk_at dksX2_areAlike_0 1 rfl rfl)
theorem dX2_areAlike_2 : decode cX2_areAlike 2 = .ok (.invokevirtual 51, 3) := dk_182 0 51 (dk_at dksX2_areAlike_0 2 rfl rfl)
theorem dX2_areAlike_5 : decode cX2_areAlike 5 = .ok (.ifCond .eq 15, 3) := dk_153 0 15 (dk_at dksX2_areAlike_0 5 rfl rfl)
theorem dX2_areAlike_8 : decode cX2_areAlike 8 = .ok (.aload_n 0, 1) := dk_42 (dk_at dksX2_areAlike_0 8 rfl rfl)
theorem dX2_areAlike_9 : decode cX2_areAlike 9 = .ok (.iload_n 2, 1) := dk_28 (dk_at dksX2_areAlike_0 9 rfl rfl)
theorem dX2_areAlike_10 : decode cX2_areAlike 10 = .ok (.invokevirtual 51, 3) := dk_182 0 51 (dk_at dksX2_areAlike_0 10 rfl rfl)
theorem dX2_areAlike_13 : decode cX2_areAlike 13 = .ok (.ifCond .eq 7, 3) := dk_153 0 7 (dk_at dksX2_areAlike_0 13 rfl rfl)
theorem dX2_areAlike_16 : decode cX2_areAlike 16 = .ok (.iconst 1, 1) := dk_4 (dk_at dksX2_areAlike_0 16 rfl rfl)
theorem dX2_areAlike_17 : decode cX2_areAlike 17 = .ok (.goto 4, 3) := dk_167 0 4 (dk_at dksX2_areAlike_0 17 rfl rfl)
theorem dX2_areAlike_20 : decode cX2_areAlike 20 = .ok (.iconst 0, 1) := dk_3 (dk_at dksX2_areAlike_0 20 rfl rfl)
theorem dX2_areAlike_21 : decode cX2_areAlike 21 = .ok (.istore_n 3, 1) := dk_62 (dk_at dksX2_areAlike_0 21 rfl rfl)
theorem dX2_areAlike_22 : decode cX2_areAlike 22 = .ok (.iload_n 3, 1) := dk_29 (dk_at dksX2_areAlike_0 22 rfl rfl)
theorem dX2_areAlike_23 : decode cX2_areAlike 23 = .ok (.ifCond .eq 11, 3) := dk_153 0 11 (dk_at dksX2_areAlike_1 0 rfl rfl)
theorem dX2_areAlike_26 : decode cX2_areAlike 26 = .ok (.aload_n 0, 1) := dk_42 (dk_at dksX2_areAlike_1 3 rfl rfl)
theorem dX2_areAlike_27 : decode cX2_areAlike 27 = .ok (.iload_n 1, 1) := dk_27 (dk_at dksX2_areAlike_1 4 rfl rfl)
theorem dX2_areAlike_28 : decode cX2_areAlike 28 = .ok (.invokevirtual 329, 3) := dk_182 1 73 (dk_at dksX2_areAlike_1 5 rfl rfl)
theorem dX2_areAlike_31 : decode cX2_areAlike 31 = .ok (.goto 4, 3) := dk_167 0 4 (dk_at dksX2_areAlike_1 8 rfl rfl)
theorem dX2_areAlike_34 : decode cX2_areAlike 34 = .ok (.aconst_null, 1) := dk_1 (dk_at dksX2_areAlike_1 11 rfl rfl)
theorem dX2_areAlike_35 : decode cX2_areAlike 35 = .ok (.astore 4, 2) := dk_58 4 (dk_at dksX2_areAlike_1 12 rfl rfl)
theorem dX2_areAlike_37 : decode cX2_areAlike 37 = .ok (.iload_n 3, 1) := dk_29 (dk_at dksX2_areAlike_1 14 rfl rfl)
theorem dX2_areAlike_38 : decode cX2_areAlike 38 = .ok (.ifCond .eq 11, 3) := dk_153 0 11 (dk_at dksX2_areAlike_1 15 rfl rfl)
theorem dX2_areAlike_41 : decode cX2_areAlike 41 = .ok (.aload_n 0, 1) := dk_42 (dk_at dksX2_areAlike_1 18 rfl rfl)
theorem dX2_areAlike_42 : decode cX2_areAlike 42 = .ok (.iload_n 2, 1) := dk_28 (dk_at dksX2_areAlike_1 19 rfl rfl)
theorem dX2_areAlike_43 : decode cX2_areAlike 43 = .ok (.invokevirtual 329, 3) := dk_182 1 73 (dk_at dksX2_areAlike_1 20 rfl rfl)
theorem dX2_areAlike_46 : decode cX2_areAlike 46 = .ok (.goto 4, 3) := dk_167 0 4 (dk_at dksX2_areAlike_2 0 rfl rfl)
theorem dX2_areAlike_49 : decode cX2_areAlike 49 = .ok (.aconst_null, 1) := dk_1 (dk_at dksX2_areAlike_2 3 rfl rfl)
theorem dX2_areAlike_50 : decode cX2_areAlike 50 = .ok (.astore 5, 2) := dk_58 5 (dk_at dksX2_areAlike_2 4 rfl rfl)
theorem dX2_areAlike_52 : decode cX2_areAlike 52 = .ok (.aload_n 0, 1) := dk_42 (dk_at dksX2_areAlike_2 6 rfl rfl)
theorem dX2_areAlike_53 : decode cX2_areAlike 53 = .ok (.iload_n 3, 1) := dk_29 (dk_at dksX2_areAlike_2 7 rfl rfl)
theorem dX2_areAlike_54 : decode cX2_areAlike 54 = .ok (.aload 4, 2) := dk_25 4 (dk_at dksX2_areAlike_2 8 rfl rfl)
theorem dX2_areAlike_56 : decode cX2_areAlike 56 = .ok (.ifnull 12, 3) := dk_198 0 12 (dk_at dksX2_areAlike_2 10 rfl rfl)
theorem dX2_areAlike_59 : decode cX2_areAlike 59 = .ok (.aload 5, 2) := dk_25 5 (dk_at dksX2_areAlike_2 13 rfl rfl)
theorem dX2_areAlike_61 : decode cX2_areAlike 61 = .ok (.ifnull 7, 3) := dk_198 0 7 (dk_at dksX2_areAlike_2 15 rfl rfl)
theorem dX2_areAlike_64 : decode cX2_areAlike 64 = .ok (.iconst 1, 1) := dk_4 (dk_at dksX2_areAlike_2 18 rfl rfl)
theorem dX2_areAlike_65 : decode cX2_areAlike 65 = .ok (.goto 4, 3) := dk_167 0 4 (dk_at dksX2_areAlike_2 19 rfl rfl)
theorem dX2_areAlike_68 : decode cX2_areAlike 68 = .ok (.iconst 0, 1) := dk_3 (dk_at dksX2_areAlike_2 22 rfl rfl)
theorem dX2_areAlike_69 : decode cX2_areAlike 69 = .ok (.iconst 1, 1) := dk_4 (dk_at dksX2_areAlike_2 23 rfl rfl)
theorem dX2_areAlike_70 : decode cX2_areAlike 70 = .ok (.invokevirtual 59, 3) := dk_182 0 59 (dk_at dksX2_areAlike_3 0 rfl rfl)
theorem dX2_areAlike_73 : decode cX2_areAlike 73 = .ok (.ifCond .eq 17, 3) := dk_153 0 17 (dk_at dksX2_areAlike_3 3 rfl rfl)
theorem dX2_areAlike_76 : decode cX2_areAlike 76 = .ok (.aload 4, 2) := dk_25 4 (dk_at dksX2_areAlike_3 6 rfl rfl)
theorem dX2_areAlike_78 : decode cX2_areAlike 78 = .ok (.aload 5, 2) := dk_25 5 (dk_at dksX2_areAlike_3 8 rfl rfl)
theorem dX2_areAlike_80 : decode cX2_areAlike 80 = .ok (.invokevirtual 339, 3) := dk_182 1 83 (dk_at dksX2_areAlike_3 10 rfl rfl)
theorem dX2_areAlike_83 : decode cX2_areAlike 83 = .ok (.ifCond .eq 7, 3) := dk_153 0 7 (dk_at dksX2_areAlike_3 13 rfl rfl)
theorem dX2_areAlike_86 : decode cX2_areAlike 86 = .ok (.iconst 1, 1) := dk_4 (dk_at dksX2_areAlike_3 16 rfl rfl)
theorem dX2_areAlike_87 : decode cX2_areAlike 87 = .ok (.goto 4, 3) := dk_167 0 4 (dk_at dksX2_areAlike_3 17 rfl rfl)
theorem dX2_areAlike_90 : decode cX2_areAlike 90 = .ok (.iconst 0, 1) := dk_3 (dk_at dksX2_areAlike_3 20 rfl rfl)
theorem dX2_areAlike_91 : decode cX2_areAlike 91 = .ok (.ireturn, 1) := dk_172 (dk_at dksX2_areAlike_3 21 rfl rfl)
abbrev cX2_run : ByteArray := prog_45_method_57_code
def yX2_run : MethodName := ⟨RX2, "run", "(I)I"⟩
def dkwX2_run_4 : List UInt8 := [180, 1, 104, 153, 0, 7, 2, 167, 0, 10, 42, 180, 0, 34, 182, 1, 77, 172]
abbrev dktX2_run_4 : List UInt8 := dkwX2_run_4 ++ []
def dkwX2_run_3 : List UInt8 := [180, 1, 104, 154, 0, 9, 45, 25, 4, 184, 1, 144, 42, 25, 4, 182, 1, 65, 181, 0, 34, 42]
abbrev dktX2_run_3 : List UInt8 := dkwX2_run_3 ++ dktX2_run_4
def dkwX2_run_2 : List UInt8 := [182, 1, 107, 78, 42, 42, 180, 1, 101, 181, 1, 148, 187, 1, 40, 89, 183, 1, 64, 58, 4, 42]
abbrev dktX2_run_2 : List UInt8 := dkwX2_run_2 ++ dktX2_run_3
def dkwX2_run_1 : List UInt8 := [3, 4, 182, 0, 59, 154, 0, 5, 3, 172, 42, 3, 181, 1, 101, 42, 3, 181, 1, 104, 42, 27, 1]
abbrev dktX2_run_1 : List UInt8 := dkwX2_run_1 ++ dktX2_run_2
def dkwX2_run_0 : List UInt8 := [42, 27, 182, 0, 51, 61, 42, 28, 28, 153, 0, 15, 42, 27, 182, 1, 35, 198, 0, 7, 4, 167, 0, 4]
abbrev dktX2_run_0 : List UInt8 := dkwX2_run_0 ++ dktX2_run_1
theorem dksX2_run_0 : cX2_run.data.toList.drop 0 = dktX2_run_0 := by decide +kernel
theorem dksX2_run_1 : cX2_run.data.toList.drop 24 = dktX2_run_1 := dk_seg dksX2_run_0 24 rfl rfl
theorem dksX2_run_2 : cX2_run.data.toList.drop 47 = dktX2_run_2 := dk_seg dksX2_run_1 23 rfl rfl
theorem dksX2_run_3 : cX2_run.data.toList.drop 69 = dktX2_run_3 := dk_seg dksX2_run_2 22 rfl rfl
theorem dksX2_run_4 : cX2_run.data.toList.drop 91 = dktX2_run_4 := dk_seg dksX2_run_3 22 rfl rfl
theorem dX2_run_0 : decode cX2_run 0 = .ok (.aload_n 0, 1) := dk_42 (dk_at dksX2_run_0 0 rfl rfl)
theorem dX2_run_1 : decode cX2_run 1 = .ok (.iload_n 1, 1) := dk_27 (dk_at dksX2_run_0 1 rfl rfl)
theorem dX2_run_2 : decode cX2_run 2 = .ok (.invokevirtual 51, 3) := dk_182 0 51 (dk_at dksX2_run_0 2 rfl rfl)
theorem dX2_run_5 : decode cX2_run 5 = .ok (.istore_n 2, 1) := dk_61 (dk_at dksX2_run_0 5 rfl rfl)
theorem dX2_run_6 : decode cX2_run 6 = .ok (.aload_n 0, 1) := dk_42 (dk_at dksX2_run_0 6 rfl rfl)
theorem dX2_run_7 : decode cX2_run 7 = .ok (.iload_n 2, 1) := dk_28 (dk_at dksX2_run_0 7 rfl rfl)
theorem dX2_run_8 : decode cX2_run 8 = .ok (.iload_n 2, 1) := dk_28 (dk_at dksX2_run_0 8 rfl rfl)
theorem dX2_run_9 : decode cX2_run 9 = .ok (.ifCond .eq 15, 3) := dk_153 0 15 (dk_at dksX2_run_0 9 rfl rfl)
theorem dX2_run_12 : decode cX2_run 12 = .ok (.aload_n 0, 1) := dk_42 (dk_at dksX2_run_0 12 rfl rfl)
theorem dX2_run_13 : decode cX2_run 13 = .ok (.iload_n 1, 1) := dk_27 (dk_at dksX2_run_0 13 rfl rfl)
theorem dX2_run_14 : decode cX2_run 14 = .ok (.invokevirtual 291, 3) := dk_182 1 35 (dk_at dksX2_run_0 14 rfl rfl)
theorem dX2_run_17 : decode cX2_run 17 = .ok (.ifnull 7, 3) := dk_198 0 7 (dk_at dksX2_run_0 17 rfl rfl)
theorem dX2_run_20 : decode cX2_run 20 = .ok (.iconst 1, 1) := dk_4 (dk_at dksX2_run_0 20 rfl rfl)
theorem dX2_run_21 : decode cX2_run 21 = .ok (.goto 4, 3) := dk_167 0 4 (dk_at dksX2_run_0 21 rfl rfl)
theorem dX2_run_24 : decode cX2_run 24 = .ok (.iconst 0, 1) := dk_3 (dk_at dksX2_run_1 0 rfl rfl)
theorem dX2_run_25 : decode cX2_run 25 = .ok (.iconst 1, 1) := dk_4 (dk_at dksX2_run_1 1 rfl rfl)
theorem dX2_run_26 : decode cX2_run 26 = .ok (.invokevirtual 59, 3) := dk_182 0 59 (dk_at dksX2_run_1 2 rfl rfl)
theorem dX2_run_29 : decode cX2_run 29 = .ok (.ifCond .ne 5, 3) := dk_154 0 5 (dk_at dksX2_run_1 5 rfl rfl)
theorem dX2_run_32 : decode cX2_run 32 = .ok (.iconst 0, 1) := dk_3 (dk_at dksX2_run_1 8 rfl rfl)
theorem dX2_run_33 : decode cX2_run 33 = .ok (.ireturn, 1) := dk_172 (dk_at dksX2_run_1 9 rfl rfl)
theorem dX2_run_34 : decode cX2_run 34 = .ok (.aload_n 0, 1) := dk_42 (dk_at dksX2_run_1 10 rfl rfl)
theorem dX2_run_35 : decode cX2_run 35 = .ok (.iconst 0, 1) := dk_3 (dk_at dksX2_run_1 11 rfl rfl)
theorem dX2_run_36 : decode cX2_run 36 = .ok (.putfield 357, 3) := dk_181 1 101 (dk_at dksX2_run_1 12 rfl rfl)
theorem dX2_run_39 : decode cX2_run 39 = .ok (.aload_n 0, 1) := dk_42 (dk_at dksX2_run_1 15 rfl rfl)
theorem dX2_run_40 : decode cX2_run 40 = .ok (.iconst 0, 1) := dk_3 (dk_at dksX2_run_1 16 rfl rfl)
theorem dX2_run_41 : decode cX2_run 41 = .ok (.putfield 360, 3) := dk_181 1 104 (dk_at dksX2_run_1 17 rfl rfl)
theorem dX2_run_44 : decode cX2_run 44 = .ok (.aload_n 0, 1) := dk_42 (dk_at dksX2_run_1 20 rfl rfl)
theorem dX2_run_45 : decode cX2_run 45 = .ok (.iload_n 1, 1) := dk_27 (dk_at dksX2_run_1 21 rfl rfl)
theorem dX2_run_46 : decode cX2_run 46 = .ok (.aconst_null, 1) := dk_1 (dk_at dksX2_run_1 22 rfl rfl)
theorem dX2_run_47 : decode cX2_run 47 = .ok (.invokevirtual 363, 3) := dk_182 1 107 (dk_at dksX2_run_2 0 rfl rfl)
theorem dX2_run_50 : decode cX2_run 50 = .ok (.astore_n 3, 1) := dk_78 (dk_at dksX2_run_2 3 rfl rfl)
theorem dX2_run_51 : decode cX2_run 51 = .ok (.aload_n 0, 1) := dk_42 (dk_at dksX2_run_2 4 rfl rfl)
theorem dX2_run_52 : decode cX2_run 52 = .ok (.aload_n 0, 1) := dk_42 (dk_at dksX2_run_2 5 rfl rfl)
theorem dX2_run_53 : decode cX2_run 53 = .ok (.getfield 357, 3) := dk_180 1 101 (dk_at dksX2_run_2 6 rfl rfl)
theorem dX2_run_56 : decode cX2_run 56 = .ok (.putfield 404, 3) := dk_181 1 148 (dk_at dksX2_run_2 9 rfl rfl)
theorem dX2_run_59 : decode cX2_run 59 = .ok (.new 296, 3) := dk_187 1 40 (dk_at dksX2_run_2 12 rfl rfl)
theorem dX2_run_62 : decode cX2_run 62 = .ok (.dup, 1) := dk_89 (dk_at dksX2_run_2 15 rfl rfl)
theorem dX2_run_63 : decode cX2_run 63 = .ok (.invokespecial 320, 3) := dk_183 1 64 (dk_at dksX2_run_2 16 rfl rfl)
theorem dX2_run_66 : decode cX2_run 66 = .ok (.astore 4, 2) := dk_58 4 (dk_at dksX2_run_2 19 rfl rfl)
theorem dX2_run_68 : decode cX2_run 68 = .ok (.aload_n 0, 1) := dk_42 (dk_at dksX2_run_2 21 rfl rfl)
theorem dX2_run_69 : decode cX2_run 69 = .ok (.getfield 360, 3) := dk_180 1 104 (dk_at dksX2_run_3 0 rfl rfl)
theorem dX2_run_72 : decode cX2_run 72 = .ok (.ifCond .ne 9, 3) := dk_154 0 9 (dk_at dksX2_run_3 3 rfl rfl)
theorem dX2_run_75 : decode cX2_run 75 = .ok (.aload_n 3, 1) := dk_45 (dk_at dksX2_run_3 6 rfl rfl)
theorem dX2_run_76 : decode cX2_run 76 = .ok (.aload 4, 2) := dk_25 4 (dk_at dksX2_run_3 7 rfl rfl)
theorem dX2_run_78 : decode cX2_run 78 = .ok (.invokestatic 400, 3) := dk_184 1 144 (dk_at dksX2_run_3 9 rfl rfl)
theorem dX2_run_81 : decode cX2_run 81 = .ok (.aload_n 0, 1) := dk_42 (dk_at dksX2_run_3 12 rfl rfl)
theorem dX2_run_82 : decode cX2_run 82 = .ok (.aload 4, 2) := dk_25 4 (dk_at dksX2_run_3 13 rfl rfl)
theorem dX2_run_84 : decode cX2_run 84 = .ok (.invokevirtual 321, 3) := dk_182 1 65 (dk_at dksX2_run_3 15 rfl rfl)
theorem dX2_run_87 : decode cX2_run 87 = .ok (.putfield 34, 3) := dk_181 0 34 (dk_at dksX2_run_3 18 rfl rfl)
theorem dX2_run_90 : decode cX2_run 90 = .ok (.aload_n 0, 1) := dk_42 (dk_at dksX2_run_3 21 rfl rfl)
theorem dX2_run_91 : decode cX2_run 91 = .ok (.getfield 360, 3) := dk_180 1 104 (dk_at dksX2_run_4 0 rfl rfl)
theorem dX2_run_94 : decode cX2_run 94 = .ok (.ifCond .eq 7, 3) := dk_153 0 7 (dk_at dksX2_run_4 3 rfl rfl)
theorem dX2_run_97 : decode cX2_run 97 = .ok (.iconst (-1), 1) := dk_2 (dk_at dksX2_run_4 6 rfl rfl)
theorem dX2_run_98 : decode cX2_run 98 = .ok (.goto 10, 3) := dk_167 0 10 (dk_at dksX2_run_4 7 rfl rfl)
theorem dX2_run_101 : decode cX2_run 101 = .ok (.aload_n 0, 1) := dk_42 (dk_at dksX2_run_4 10 rfl rfl)
theorem dX2_run_102 : decode cX2_run 102 = .ok (.getfield 34, 3) := dk_180 0 34 (dk_at dksX2_run_4 11 rfl rfl)
theorem dX2_run_105 : decode cX2_run 105 = .ok (.invokevirtual 333, 3) := dk_182 1 77 (dk_at dksX2_run_4 14 rfl rfl)
theorem dX2_run_108 : decode cX2_run 108 = .ok (.ireturn, 1) := dk_172 (dk_at dksX2_run_4 17 rfl rfl)
abbrev cX2_does : ByteArray := prog_45_method_54_code
def yX2_does : MethodName := ⟨RX2, "does", "(ILRowenTongueModel$Bound;)LRowenTongueModel$Value;"⟩
def dkwX2_does_29 : List UInt8 := [153, 0, 7, 1, 167, 0, 17, 4, 21, 11, 153, 0, 7, 4, 167, 0, 4, 3, 184, 1, 93, 176]
abbrev dktX2_does_29 : List UInt8 := dkwX2_does_29 ++ []
def dkwX2_does_28 : List UInt8 := [25, 4, 180, 1, 90, 96, 184, 1, 93, 176, 42, 45, 25, 4, 182, 1, 134, 54, 11, 42, 180, 1, 104]
abbrev dktX2_does_28 : List UInt8 := dkwX2_does_28 ++ dktX2_does_29
def dkwX2_does_27 : List UInt8 := [180, 0, 19, 27, 46, 167, 0, 9, 42, 180, 0, 22, 27, 46, 44, 182, 1, 107, 176, 4, 45, 180, 1, 90]
abbrev dktX2_does_27 : List UInt8 := dkwX2_does_27 ++ dktX2_does_28
def dkwX2_does_26 : List UInt8 := [167, 0, 4, 45, 2, 44, 183, 1, 124, 182, 1, 107, 176, 42, 45, 180, 1, 90, 153, 0, 12, 42]
abbrev dktX2_does_26 : List UInt8 := dkwX2_does_26 ++ dktX2_does_27
def dkwX2_does_25 : List UInt8 := [16, 10, 112, 167, 0, 10, 42, 180, 0, 13, 21, 9, 46, 21, 10, 153, 0, 10, 45, 180, 1, 131]
abbrev dktX2_does_25 : List UInt8 := dkwX2_does_25 ++ dktX2_does_26
def dkwX2_does_24 : List UInt8 := [42, 42, 180, 0, 16, 21, 9, 46, 187, 1, 112, 89, 21, 10, 153, 0, 16, 42, 180, 0, 13, 21, 9, 46]
abbrev dktX2_does_24 : List UInt8 := dkwX2_does_24 ++ dktX2_does_25
def dkwX2_does_23 : List UInt8 := [54, 9, 167, 255, 218, 42, 180, 0, 7, 21, 9, 46, 16, 17, 160, 0, 7, 4, 167, 0, 4, 3, 54, 10]
abbrev dktX2_does_23 : List UInt8 := dkwX2_does_23 ++ dktX2_does_24
def dkwX2_does_22 : List UInt8 := [180, 0, 13, 21, 9, 46, 16, 10, 108, 45, 180, 1, 90, 159, 0, 15, 42, 180, 0, 19, 21, 9, 46]
abbrev dktX2_does_22 : List UInt8 := dkwX2_does_22 ++ dktX2_does_23
def dkwX2_does_21 : List UInt8 := [176, 42, 180, 0, 19, 27, 46, 54, 9, 42, 180, 0, 7, 21, 9, 46, 16, 17, 160, 0, 32, 42]
abbrev dktX2_does_21 : List UInt8 := dkwX2_does_21 ++ dktX2_does_22
def dkwX2_does_20 : List UInt8 := [184, 1, 127, 176, 7, 42, 180, 0, 13, 27, 46, 184, 1, 93, 58, 8, 25, 8, 45, 181, 1, 131, 25, 8]
abbrev dktX2_does_20 : List UInt8 := dkwX2_does_20 ++ dktX2_does_21
def dkwX2_does_19 : List UInt8 := [184, 1, 127, 176, 45, 180, 1, 97, 42, 180, 0, 13, 27, 46, 50, 176, 45, 42, 180, 0, 13, 27, 46, 1]
abbrev dktX2_does_19 : List UInt8 := dkwX2_does_19 ++ dktX2_does_20
def dkwX2_does_18 : List UInt8 := [183, 1, 124, 182, 1, 107, 176, 1, 2, 1, 184, 1, 127, 176, 25, 4, 42, 180, 0, 13, 27, 46, 45]
abbrev dktX2_does_18 : List UInt8 := dkwX2_does_18 ++ dktX2_does_19
def dkwX2_does_17 : List UInt8 := [167, 0, 30, 42, 42, 180, 0, 19, 27, 46, 187, 1, 112, 89, 42, 180, 0, 13, 27, 46, 25, 7, 2, 44]
abbrev dktX2_does_17 : List UInt8 := dkwX2_does_17 ++ dktX2_does_18
def dkwX2_does_16 : List UInt8 := [180, 0, 16, 27, 46, 44, 183, 1, 124, 182, 1, 107, 58, 7, 42, 180, 1, 104, 153, 0, 7, 1]
abbrev dktX2_does_16 : List UInt8 := dkwX2_does_16 ++ dktX2_does_17
def dkwX2_does_15 : List UInt8 := [182, 1, 107, 176, 42, 42, 180, 0, 16, 27, 46, 187, 1, 112, 89, 42, 180, 0, 13, 27, 46, 1, 42]
abbrev dktX2_does_15 : List UInt8 := dkwX2_does_15 ++ dktX2_does_16
def dkwX2_does_14 : List UInt8 := [42, 42, 180, 0, 19, 27, 46, 187, 1, 112, 89, 42, 180, 0, 13, 27, 46, 45, 2, 44, 183, 1, 124]
abbrev dktX2_does_14 : List UInt8 := dkwX2_does_14 ++ dktX2_does_15
def dkwX2_does_13 : List UInt8 := [89, 42, 180, 0, 13, 45, 180, 1, 90, 46, 25, 4, 2, 45, 180, 1, 123, 183, 1, 124, 182, 1, 107, 176]
abbrev dktX2_does_13 : List UInt8 := dkwX2_does_13 ++ dktX2_does_14
def dkwX2_does_12 : List UInt8 := [58, 6, 25, 6, 44, 181, 1, 123, 25, 6, 176, 42, 42, 180, 0, 16, 45, 180, 1, 90, 46, 187, 1, 112]
abbrev dktX2_does_12 : List UInt8 := dkwX2_does_12 ++ dktX2_does_13
def dkwX2_does_11 : List UInt8 := [180, 1, 117, 167, 0, 14, 42, 25, 5, 180, 1, 120, 25, 5, 182, 1, 107, 176, 5, 27, 184, 1, 93]
abbrev dktX2_does_11 : List UInt8 := dkwX2_does_11 ++ dktX2_does_12
def dkwX2_does_10 : List UInt8 := [46, 159, 0, 13, 25, 5, 180, 1, 114, 58, 5, 167, 255, 235, 25, 5, 180, 1, 117, 198, 0, 11, 25, 5]
abbrev dktX2_does_10 : List UInt8 := dkwX2_does_10 ++ dktX2_does_11
def dkwX2_does_9 : List UInt8 := [4, 42, 180, 0, 13, 27, 46, 184, 1, 93, 176, 44, 58, 5, 25, 5, 180, 1, 111, 42, 180, 0, 13, 27]
abbrev dktX2_does_9 : List UInt8 := dkwX2_does_9 ++ dktX2_does_10
def dkwX2_does_8 : List UInt8 := [170, 0, 0, 0, 0, 2, 12, 0, 0, 0, 0, 0, 0, 0, 13, 0, 0, 0, 71, 0, 0, 0, 82, 0, 0, 0, 137, 0, 0, 0, 153, 0, 0, 0, 190, 0, 0, 0, 217, 0, 0, 1, 33, 0, 0, 1, 40, 0, 0, 1, 53, 0, 0, 1, 65, 0, 0, 1, 77, 0, 0, 1, 98, 0, 0, 1, 225, 0, 0, 1, 253]
abbrev dktX2_does_8 : List UInt8 := dkwX2_does_8 ++ dktX2_does_9
def dkwX2_does_7 : List UInt8 := [153, 0, 5, 1, 176, 42, 180, 0, 7, 27, 46]
abbrev dktX2_does_7 : List UInt8 := dkwX2_does_7 ++ dktX2_does_8
def dkwX2_does_6 : List UInt8 := [160, 0, 17, 42, 42, 180, 0, 19, 27, 46, 44, 182, 1, 107, 167, 0, 4, 1, 58, 4, 42, 180, 1, 104]
abbrev dktX2_does_6 : List UInt8 := dkwX2_does_6 ++ dktX2_does_7
def dkwX2_does_5 : List UInt8 := [16, 7, 159, 0, 25, 42, 180, 0, 7, 27, 46, 16, 13, 159, 0, 14, 42, 180, 0, 7, 27, 46, 16, 14]
abbrev dktX2_does_5 : List UInt8 := dkwX2_does_5 ++ dktX2_does_6
def dkwX2_does_4 : List UInt8 := [180, 1, 104, 153, 0, 5, 1, 176, 42, 180, 0, 7, 27, 46, 6, 159, 0, 36, 42, 180, 0, 7, 27, 46]
abbrev dktX2_does_4 : List UInt8 := dkwX2_does_4 ++ dktX2_does_5
def dkwX2_does_3 : List UInt8 := [27, 46, 8, 160, 0, 7, 1, 167, 0, 14, 42, 42, 180, 0, 16, 27, 46, 44, 182, 1, 107, 78, 42]
abbrev dktX2_does_3 : List UInt8 := dkwX2_does_3 ++ dktX2_does_4
def dkwX2_does_2 : List UInt8 := [180, 0, 7, 27, 46, 5, 159, 0, 24, 42, 180, 0, 7, 27, 46, 16, 6, 159, 0, 13, 42, 180, 0, 7]
abbrev dktX2_does_2 : List UInt8 := dkwX2_does_2 ++ dktX2_does_3
def dkwX2_does_1 : List UInt8 := [181, 1, 101, 42, 180, 0, 7, 27, 46, 153, 0, 44, 42, 180, 0, 7, 27, 46, 4, 159, 0, 34, 42]
abbrev dktX2_does_1 : List UInt8 := dkwX2_does_1 ++ dktX2_does_2
def dkwX2_does_0 : List UInt8 := [42, 180, 1, 101, 17, 3, 232, 160, 0, 10, 42, 4, 181, 1, 104, 1, 176, 42, 89, 180, 1, 101, 4, 96]
abbrev dktX2_does_0 : List UInt8 := dkwX2_does_0 ++ dktX2_does_1
theorem dksX2_does_0 : cX2_does.data.toList.drop 0 = dktX2_does_0 := by decide +kernel
theorem dksX2_does_1 : cX2_does.data.toList.drop 24 = dktX2_does_1 := dk_seg dksX2_does_0 24 rfl rfl
theorem dksX2_does_2 : cX2_does.data.toList.drop 47 = dktX2_does_2 := dk_seg dksX2_does_1 23 rfl rfl
theorem dksX2_does_3 : cX2_does.data.toList.drop 71 = dktX2_does_3 := dk_seg dksX2_does_2 24 rfl rfl
theorem dksX2_does_4 : cX2_does.data.toList.drop 94 = dktX2_does_4 := dk_seg dksX2_does_3 23 rfl rfl
theorem dksX2_does_5 : cX2_does.data.toList.drop 118 = dktX2_does_5 := dk_seg dksX2_does_4 24 rfl rfl
theorem dksX2_does_6 : cX2_does.data.toList.drop 142 = dktX2_does_6 := dk_seg dksX2_does_5 24 rfl rfl
theorem dksX2_does_7 : cX2_does.data.toList.drop 166 = dktX2_does_7 := dk_seg dksX2_does_6 24 rfl rfl
theorem dksX2_does_8 : cX2_does.data.toList.drop 177 = dktX2_does_8 := dk_seg dksX2_does_7 11 rfl rfl
theorem dksX2_does_9 : cX2_does.data.toList.drop 248 = dktX2_does_9 := dk_seg dksX2_does_8 71 rfl rfl
theorem dksX2_does_10 : cX2_does.data.toList.drop 272 = dktX2_does_10 := dk_seg dksX2_does_9 24 rfl rfl
theorem dksX2_does_11 : cX2_does.data.toList.drop 296 = dktX2_does_11 := dk_seg dksX2_does_10 24 rfl rfl
theorem dksX2_does_12 : cX2_does.data.toList.drop 319 = dktX2_does_12 := dk_seg dksX2_does_11 23 rfl rfl
theorem dksX2_does_13 : cX2_does.data.toList.drop 343 = dktX2_does_13 := dk_seg dksX2_does_12 24 rfl rfl
theorem dksX2_does_14 : cX2_does.data.toList.drop 367 = dktX2_does_14 := dk_seg dksX2_does_13 24 rfl rfl
theorem dksX2_does_15 : cX2_does.data.toList.drop 390 = dktX2_does_15 := dk_seg dksX2_does_14 23 rfl rfl
theorem dksX2_does_16 : cX2_does.data.toList.drop 413 = dktX2_does_16 := dk_seg dksX2_does_15 23 rfl rfl
theorem dksX2_does_17 : cX2_does.data.toList.drop 435 = dktX2_does_17 := dk_seg dksX2_does_16 22 rfl rfl
theorem dksX2_does_18 : cX2_does.data.toList.drop 459 = dktX2_does_18 := dk_seg dksX2_does_17 24 rfl rfl
theorem dksX2_does_19 : cX2_does.data.toList.drop 482 = dktX2_does_19 := dk_seg dksX2_does_18 23 rfl rfl
theorem dksX2_does_20 : cX2_does.data.toList.drop 506 = dktX2_does_20 := dk_seg dksX2_does_19 24 rfl rfl
theorem dksX2_does_21 : cX2_does.data.toList.drop 530 = dktX2_does_21 := dk_seg dksX2_does_20 24 rfl rfl
theorem dksX2_does_22 : cX2_does.data.toList.drop 552 = dktX2_does_22 := dk_seg dksX2_does_21 22 rfl rfl
theorem dksX2_does_23 : cX2_does.data.toList.drop 575 = dktX2_does_23 := dk_seg dksX2_does_22 23 rfl rfl
theorem dksX2_does_24 : cX2_does.data.toList.drop 599 = dktX2_does_24 := dk_seg dksX2_does_23 24 rfl rfl
theorem dksX2_does_25 : cX2_does.data.toList.drop 623 = dktX2_does_25 := dk_seg dksX2_does_24 24 rfl rfl
theorem dksX2_does_26 : cX2_does.data.toList.drop 645 = dktX2_does_26 := dk_seg dksX2_does_25 22 rfl rfl
theorem dksX2_does_27 : cX2_does.data.toList.drop 667 = dktX2_does_27 := dk_seg dksX2_does_26 22 rfl rfl
theorem dksX2_does_28 : cX2_does.data.toList.drop 691 = dktX2_does_28 := dk_seg dksX2_does_27 24 rfl rfl
theorem dksX2_does_29 : cX2_does.data.toList.drop 714 = dktX2_does_29 := dk_seg dksX2_does_28 23 rfl rfl
theorem dX2_does_0 : decode cX2_does 0 = .ok (.aload_n 0, 1) := dk_42 (dk_at dksX2_does_0 0 rfl rfl)
theorem dX2_does_1 : decode cX2_does 1 = .ok (.getfield 357, 3) := dk_180 1 101 (dk_at dksX2_does_0 1 rfl rfl)
theorem dX2_does_4 : decode cX2_does 4 = .ok (.sipush 1000, 3) := dk_17 3 232 (dk_at dksX2_does_0 4 rfl rfl)
theorem dX2_does_7 : decode cX2_does 7 = .ok (.if_icmp .ne 10, 3) := dk_160 0 10 (dk_at dksX2_does_0 7 rfl rfl)
theorem dX2_does_10 : decode cX2_does 10 = .ok (.aload_n 0, 1) := dk_42 (dk_at dksX2_does_0 10 rfl rfl)
theorem dX2_does_11 : decode cX2_does 11 = .ok (.iconst 1, 1) := dk_4 (dk_at dksX2_does_0 11 rfl rfl)
theorem dX2_does_12 : decode cX2_does 12 = .ok (.putfield 360, 3) := dk_181 1 104 (dk_at dksX2_does_0 12 rfl rfl)
theorem dX2_does_15 : decode cX2_does 15 = .ok (.aconst_null, 1) := dk_1 (dk_at dksX2_does_0 15 rfl rfl)
theorem dX2_does_16 : decode cX2_does 16 = .ok (.areturn, 1) := dk_176 (dk_at dksX2_does_0 16 rfl rfl)
theorem dX2_does_17 : decode cX2_does 17 = .ok (.aload_n 0, 1) := dk_42 (dk_at dksX2_does_0 17 rfl rfl)
theorem dX2_does_18 : decode cX2_does 18 = .ok (.dup, 1) := dk_89 (dk_at dksX2_does_0 18 rfl rfl)
theorem dX2_does_19 : decode cX2_does 19 = .ok (.getfield 357, 3) := dk_180 1 101 (dk_at dksX2_does_0 19 rfl rfl)
theorem dX2_does_22 : decode cX2_does 22 = .ok (.iconst 1, 1) := dk_4 (dk_at dksX2_does_0 22 rfl rfl)
theorem dX2_does_23 : decode cX2_does 23 = .ok (.iadd, 1) := dk_96 (dk_at dksX2_does_0 23 rfl rfl)
theorem dX2_does_24 : decode cX2_does 24 = .ok (.putfield 357, 3) := dk_181 1 101 (dk_at dksX2_does_1 0 rfl rfl)
theorem dX2_does_27 : decode cX2_does 27 = .ok (.aload_n 0, 1) := dk_42 (dk_at dksX2_does_1 3 rfl rfl)
theorem dX2_does_28 : decode cX2_does 28 = .ok (.getfield 7, 3) := dk_180 0 7 (dk_at dksX2_does_1 4 rfl rfl)
theorem dX2_does_31 : decode cX2_does 31 = .ok (.iload_n 1, 1) := dk_27 (dk_at dksX2_does_1 7 rfl rfl)
theorem dX2_does_32 : decode cX2_does 32 = .ok (.iaload, 1) := dk_46 (dk_at dksX2_does_1 8 rfl rfl)
theorem dX2_does_33 : decode cX2_does 33 = .ok (.ifCond .eq 44, 3) := dk_153 0 44 (dk_at dksX2_does_1 9 rfl rfl)
theorem dX2_does_36 : decode cX2_does 36 = .ok (.aload_n 0, 1) := dk_42 (dk_at dksX2_does_1 12 rfl rfl)
theorem dX2_does_37 : decode cX2_does 37 = .ok (.getfield 7, 3) := dk_180 0 7 (dk_at dksX2_does_1 13 rfl rfl)
theorem dX2_does_40 : decode cX2_does 40 = .ok (.iload_n 1, 1) := dk_27 (dk_at dksX2_does_1 16 rfl rfl)
theorem dX2_does_41 : decode cX2_does 41 = .ok (.iaload, 1) := dk_46 (dk_at dksX2_does_1 17 rfl rfl)
theorem dX2_does_42 : decode cX2_does 42 = .ok (.iconst 1, 1) := dk_4 (dk_at dksX2_does_1 18 rfl rfl)
theorem dX2_does_43 : decode cX2_does 43 = .ok (.if_icmp .eq 34, 3) := dk_159 0 34 (dk_at dksX2_does_1 19 rfl rfl)
theorem dX2_does_46 : decode cX2_does 46 = .ok (.aload_n 0, 1) := dk_42 (dk_at dksX2_does_1 22 rfl rfl)
theorem dX2_does_47 : decode cX2_does 47 = .ok (.getfield 7, 3) := dk_180 0 7 (dk_at dksX2_does_2 0 rfl rfl)
theorem dX2_does_50 : decode cX2_does 50 = .ok (.iload_n 1, 1) := dk_27 (dk_at dksX2_does_2 3 rfl rfl)
theorem dX2_does_51 : decode cX2_does 51 = .ok (.iaload, 1) := dk_46 (dk_at dksX2_does_2 4 rfl rfl)
theorem dX2_does_52 : decode cX2_does 52 = .ok (.iconst 2, 1) := dk_5 (dk_at dksX2_does_2 5 rfl rfl)
theorem dX2_does_53 : decode cX2_does 53 = .ok (.if_icmp .eq 24, 3) := dk_159 0 24 (dk_at dksX2_does_2 6 rfl rfl)
theorem dX2_does_56 : decode cX2_does 56 = .ok (.aload_n 0, 1) := dk_42 (dk_at dksX2_does_2 9 rfl rfl)
theorem dX2_does_57 : decode cX2_does 57 = .ok (.getfield 7, 3) := dk_180 0 7 (dk_at dksX2_does_2 10 rfl rfl)
theorem dX2_does_60 : decode cX2_does 60 = .ok (.iload_n 1, 1) := dk_27 (dk_at dksX2_does_2 13 rfl rfl)
theorem dX2_does_61 : decode cX2_does 61 = .ok (.iaload, 1) := dk_46 (dk_at dksX2_does_2 14 rfl rfl)
theorem dX2_does_62 : decode cX2_does 62 = .ok (.bipush 6, 2) := dk_16 6 (dk_at dksX2_does_2 15 rfl rfl)
theorem dX2_does_64 : decode cX2_does 64 = .ok (.if_icmp .eq 13, 3) := dk_159 0 13 (dk_at dksX2_does_2 17 rfl rfl)
theorem dX2_does_67 : decode cX2_does 67 = .ok (.aload_n 0, 1) := dk_42 (dk_at dksX2_does_2 20 rfl rfl)
theorem dX2_does_68 : decode cX2_does 68 = .ok (.getfield 7, 3) := dk_180 0 7 (dk_at dksX2_does_2 21 rfl rfl)
theorem dX2_does_71 : decode cX2_does 71 = .ok (.iload_n 1, 1) := dk_27 (dk_at dksX2_does_3 0 rfl rfl)
theorem dX2_does_72 : decode cX2_does 72 = .ok (.iaload, 1) := dk_46 (dk_at dksX2_does_3 1 rfl rfl)
theorem dX2_does_73 : decode cX2_does 73 = .ok (.iconst 5, 1) := dk_8 (dk_at dksX2_does_3 2 rfl rfl)
theorem dX2_does_74 : decode cX2_does 74 = .ok (.if_icmp .ne 7, 3) := dk_160 0 7 (dk_at dksX2_does_3 3 rfl rfl)
theorem dX2_does_77 : decode cX2_does 77 = .ok (.aconst_null, 1) := dk_1 (dk_at dksX2_does_3 6 rfl rfl)
theorem dX2_does_78 : decode cX2_does 78 = .ok (.goto 14, 3) := dk_167 0 14 (dk_at dksX2_does_3 7 rfl rfl)
theorem dX2_does_81 : decode cX2_does 81 = .ok (.aload_n 0, 1) := dk_42 (dk_at dksX2_does_3 10 rfl rfl)
theorem dX2_does_82 : decode cX2_does 82 = .ok (.aload_n 0, 1) := dk_42 (dk_at dksX2_does_3 11 rfl rfl)
theorem dX2_does_83 : decode cX2_does 83 = .ok (.getfield 16, 3) := dk_180 0 16 (dk_at dksX2_does_3 12 rfl rfl)
theorem dX2_does_86 : decode cX2_does 86 = .ok (.iload_n 1, 1) := dk_27 (dk_at dksX2_does_3 15 rfl rfl)
theorem dX2_does_87 : decode cX2_does 87 = .ok (.iaload, 1) := dk_46 (dk_at dksX2_does_3 16 rfl rfl)
theorem dX2_does_88 : decode cX2_does 88 = .ok (.aload_n 2, 1) := dk_44 (dk_at dksX2_does_3 17 rfl rfl)
theorem dX2_does_89 : decode cX2_does 89 = .ok (.invokevirtual 363, 3) := dk_182 1 107 (dk_at dksX2_does_3 18 rfl rfl)
theorem dX2_does_92 : decode cX2_does 92 = .ok (.astore_n 3, 1) := dk_78 (dk_at dksX2_does_3 21 rfl rfl)
theorem dX2_does_93 : decode cX2_does 93 = .ok (.aload_n 0, 1) := dk_42 (dk_at dksX2_does_3 22 rfl rfl)
theorem dX2_does_94 : decode cX2_does 94 = .ok (.getfield 360, 3) := dk_180 1 104 (dk_at dksX2_does_4 0 rfl rfl)
theorem dX2_does_97 : decode cX2_does 97 = .ok (.ifCond .eq 5, 3) := dk_153 0 5 (dk_at dksX2_does_4 3 rfl rfl)
theorem dX2_does_100 : decode cX2_does 100 = .ok (.aconst_null, 1) := dk_1 (dk_at dksX2_does_4 6 rfl rfl)
theorem dX2_does_101 : decode cX2_does 101 = .ok (.areturn, 1) := dk_176 (dk_at dksX2_does_4 7 rfl rfl)
theorem dX2_does_102 : decode cX2_does 102 = .ok (.aload_n 0, 1) := dk_42 (dk_at dksX2_does_4 8 rfl rfl)
theorem dX2_does_103 : decode cX2_does 103 = .ok (.getfield 7, 3) := dk_180 0 7 (dk_at dksX2_does_4 9 rfl rfl)
theorem dX2_does_106 : decode cX2_does 106 = .ok (.iload_n 1, 1) := dk_27 (dk_at dksX2_does_4 12 rfl rfl)
theorem dX2_does_107 : decode cX2_does 107 = .ok (.iaload, 1) := dk_46 (dk_at dksX2_does_4 13 rfl rfl)
theorem dX2_does_108 : decode cX2_does 108 = .ok (.iconst 3, 1) := dk_6 (dk_at dksX2_does_4 14 rfl rfl)
theorem dX2_does_109 : decode cX2_does 109 = .ok (.if_icmp .eq 36, 3) := dk_159 0 36 (dk_at dksX2_does_4 15 rfl rfl)
theorem dX2_does_112 : decode cX2_does 112 = .ok (.aload_n 0, 1) := dk_42 (dk_at dksX2_does_4 18 rfl rfl)
theorem dX2_does_113 : decode cX2_does 113 = .ok (.getfield 7, 3) := dk_180 0 7 (dk_at dksX2_does_4 19 rfl rfl)
theorem dX2_does_116 : decode cX2_does 116 = .ok (.iload_n 1, 1) := dk_27 (dk_at dksX2_does_4 22 rfl rfl)
theorem dX2_does_117 : decode cX2_does 117 = .ok (.iaload, 1) := dk_46 (dk_at dksX2_does_4 23 rfl rfl)
theorem dX2_does_118 : decode cX2_does 118 = .ok (.bipush 7, 2) := dk_16 7 (dk_at dksX2_does_5 0 rfl rfl)
theorem dX2_does_120 : decode cX2_does 120 = .ok (.if_icmp .eq 25, 3) := dk_159 0 25 (dk_at dksX2_does_5 2 rfl rfl)
theorem dX2_does_123 : decode cX2_does 123 = .ok (.aload_n 0, 1) := dk_42 (dk_at dksX2_does_5 5 rfl rfl)
theorem dX2_does_124 : decode cX2_does 124 = .ok (.getfield 7, 3) := dk_180 0 7 (dk_at dksX2_does_5 6 rfl rfl)
theorem dX2_does_127 : decode cX2_does 127 = .ok (.iload_n 1, 1) := dk_27 (dk_at dksX2_does_5 9 rfl rfl)
theorem dX2_does_128 : decode cX2_does 128 = .ok (.iaload, 1) := dk_46 (dk_at dksX2_does_5 10 rfl rfl)
theorem dX2_does_129 : decode cX2_does 129 = .ok (.bipush 13, 2) := dk_16 13 (dk_at dksX2_does_5 11 rfl rfl)
theorem dX2_does_131 : decode cX2_does 131 = .ok (.if_icmp .eq 14, 3) := dk_159 0 14 (dk_at dksX2_does_5 13 rfl rfl)
theorem dX2_does_134 : decode cX2_does 134 = .ok (.aload_n 0, 1) := dk_42 (dk_at dksX2_does_5 16 rfl rfl)
theorem dX2_does_135 : decode cX2_does 135 = .ok (.getfield 7, 3) := dk_180 0 7 (dk_at dksX2_does_5 17 rfl rfl)
theorem dX2_does_138 : decode cX2_does 138 = .ok (.iload_n 1, 1) := dk_27 (dk_at dksX2_does_5 20 rfl rfl)
theorem dX2_does_139 : decode cX2_does 139 = .ok (.iaload, 1) := dk_46 (dk_at dksX2_does_5 21 rfl rfl)
theorem dX2_does_140 : decode cX2_does 140 = .ok (.bipush 14, 2) := dk_16 14 (dk_at dksX2_does_5 22 rfl rfl)
theorem dX2_does_142 : decode cX2_does 142 = .ok (.if_icmp .ne 17, 3) := dk_160 0 17 (dk_at dksX2_does_6 0 rfl rfl)
theorem dX2_does_145 : decode cX2_does 145 = .ok (.aload_n 0, 1) := dk_42 (dk_at dksX2_does_6 3 rfl rfl)
theorem dX2_does_146 : decode cX2_does 146 = .ok (.aload_n 0, 1) := dk_42 (dk_at dksX2_does_6 4 rfl rfl)
theorem dX2_does_147 : decode cX2_does 147 = .ok (.getfield 19, 3) := dk_180 0 19 (dk_at dksX2_does_6 5 rfl rfl)
theorem dX2_does_150 : decode cX2_does 150 = .ok (.iload_n 1, 1) := dk_27 (dk_at dksX2_does_6 8 rfl rfl)
theorem dX2_does_151 : decode cX2_does 151 = .ok (.iaload, 1) := dk_46 (dk_at dksX2_does_6 9 rfl rfl)
theorem dX2_does_152 : decode cX2_does 152 = .ok (.aload_n 2, 1) := dk_44 (dk_at dksX2_does_6 10 rfl rfl)
theorem dX2_does_153 : decode cX2_does 153 = .ok (.invokevirtual 363, 3) := dk_182 1 107 (dk_at dksX2_does_6 11 rfl rfl)
theorem dX2_does_156 : decode cX2_does 156 = .ok (.goto 4, 3) := dk_167 0 4 (dk_at dksX2_does_6 14 rfl rfl)
theorem dX2_does_159 : decode cX2_does 159 = .ok (.aconst_null, 1) := dk_1 (dk_at dksX2_does_6 17 rfl rfl)
theorem dX2_does_160 : decode cX2_does 160 = .ok (.astore 4, 2) := dk_58 4 (dk_at dksX2_does_6 18 rfl rfl)
theorem dX2_does_162 : decode cX2_does 162 = .ok (.aload_n 0, 1) := dk_42 (dk_at dksX2_does_6 20 rfl rfl)
theorem dX2_does_163 : decode cX2_does 163 = .ok (.getfield 360, 3) := dk_180 1 104 (dk_at dksX2_does_6 21 rfl rfl)
theorem dX2_does_166 : decode cX2_does 166 = .ok (.ifCond .eq 5, 3) := dk_153 0 5 (dk_at dksX2_does_7 0 rfl rfl)
theorem dX2_does_169 : decode cX2_does 169 = .ok (.aconst_null, 1) := dk_1 (dk_at dksX2_does_7 3 rfl rfl)
theorem dX2_does_170 : decode cX2_does 170 = .ok (.areturn, 1) := dk_176 (dk_at dksX2_does_7 4 rfl rfl)
theorem dX2_does_171 : decode cX2_does 171 = .ok (.aload_n 0, 1) := dk_42 (dk_at dksX2_does_7 5 rfl rfl)
theorem dX2_does_172 : decode cX2_does 172 = .ok (.getfield 7, 3) := dk_180 0 7 (dk_at dksX2_does_7 6 rfl rfl)
theorem dX2_does_175 : decode cX2_does 175 = .ok (.iload_n 1, 1) := dk_27 (dk_at dksX2_does_7 9 rfl rfl)
theorem dX2_does_176 : decode cX2_does 176 = .ok (.iaload, 1) := dk_46 (dk_at dksX2_does_7 10 rfl rfl)
theorem dX2_does_177 : decode cX2_does 177 = .ok (.tableswitch 524 0 13 #[71, 82, 137, 153, 190, 217, 289, 296, 309, 321, 333, 354, 481, 509], 71) := by decide +kernel
theorem dX2_does_248 : decode cX2_does 248 = .ok (.iconst 1, 1) := dk_4 (dk_at dksX2_does_9 0 rfl rfl)
theorem dX2_does_249 : decode cX2_does 249 = .ok (.aload_n 0, 1) := dk_42 (dk_at dksX2_does_9 1 rfl rfl)
theorem dX2_does_250 : decode cX2_does 250 = .ok (.getfield 13, 3) := dk_180 0 13 (dk_at dksX2_does_9 2 rfl rfl)
theorem dX2_does_253 : decode cX2_does 253 = .ok (.iload_n 1, 1) := dk_27 (dk_at dksX2_does_9 5 rfl rfl)
theorem dX2_does_254 : decode cX2_does 254 = .ok (.iaload, 1) := dk_46 (dk_at dksX2_does_9 6 rfl rfl)
theorem dX2_does_255 : decode cX2_does 255 = .ok (.invokestatic 349, 3) := dk_184 1 93 (dk_at dksX2_does_9 7 rfl rfl)
theorem dX2_does_258 : decode cX2_does 258 = .ok (.areturn, 1) := dk_176 (dk_at dksX2_does_9 10 rfl rfl)
theorem dX2_does_259 : decode cX2_does 259 = .ok (.aload_n 2, 1) := dk_44 (dk_at dksX2_does_9 11 rfl rfl)
theorem dX2_does_260 : decode cX2_does 260 = .ok (.astore 5, 2) := dk_58 5 (dk_at dksX2_does_9 12 rfl rfl)
theorem dX2_does_262 : decode cX2_does 262 = .ok (.aload 5, 2) := dk_25 5 (dk_at dksX2_does_9 14 rfl rfl)
theorem dX2_does_264 : decode cX2_does 264 = .ok (.getfield 367, 3) := dk_180 1 111 (dk_at dksX2_does_9 16 rfl rfl)
theorem dX2_does_267 : decode cX2_does 267 = .ok (.aload_n 0, 1) := dk_42 (dk_at dksX2_does_9 19 rfl rfl)
theorem dX2_does_268 : decode cX2_does 268 = .ok (.getfield 13, 3) := dk_180 0 13 (dk_at dksX2_does_9 20 rfl rfl)
theorem dX2_does_271 : decode cX2_does 271 = .ok (.iload_n 1, 1) := dk_27 (dk_at dksX2_does_9 23 rfl rfl)
theorem dX2_does_272 : decode cX2_does 272 = .ok (.iaload, 1) := dk_46 (dk_at dksX2_does_10 0 rfl rfl)
theorem dX2_does_273 : decode cX2_does 273 = .ok (.if_icmp .eq 13, 3) := dk_159 0 13 (dk_at dksX2_does_10 1 rfl rfl)
theorem dX2_does_276 : decode cX2_does 276 = .ok (.aload 5, 2) := dk_25 5 (dk_at dksX2_does_10 4 rfl rfl)
theorem dX2_does_278 : decode cX2_does 278 = .ok (.getfield 370, 3) := dk_180 1 114 (dk_at dksX2_does_10 6 rfl rfl)
theorem dX2_does_281 : decode cX2_does 281 = .ok (.astore 5, 2) := dk_58 5 (dk_at dksX2_does_10 9 rfl rfl)
theorem dX2_does_283 : decode cX2_does 283 = .ok (.goto (-21), 3) := dk_167 255 235 (dk_at dksX2_does_10 11 rfl rfl)
theorem dX2_does_286 : decode cX2_does 286 = .ok (.aload 5, 2) := dk_25 5 (dk_at dksX2_does_10 14 rfl rfl)
theorem dX2_does_288 : decode cX2_does 288 = .ok (.getfield 373, 3) := dk_180 1 117 (dk_at dksX2_does_10 16 rfl rfl)
theorem dX2_does_291 : decode cX2_does 291 = .ok (.ifnull 11, 3) := dk_198 0 11 (dk_at dksX2_does_10 19 rfl rfl)
theorem dX2_does_294 : decode cX2_does 294 = .ok (.aload 5, 2) := dk_25 5 (dk_at dksX2_does_10 22 rfl rfl)
theorem dX2_does_296 : decode cX2_does 296 = .ok (.getfield 373, 3) := dk_180 1 117 (dk_at dksX2_does_11 0 rfl rfl)
theorem dX2_does_299 : decode cX2_does 299 = .ok (.goto 14, 3) := dk_167 0 14 (dk_at dksX2_does_11 3 rfl rfl)
theorem dX2_does_302 : decode cX2_does 302 = .ok (.aload_n 0, 1) := dk_42 (dk_at dksX2_does_11 6 rfl rfl)
theorem dX2_does_303 : decode cX2_does 303 = .ok (.aload 5, 2) := dk_25 5 (dk_at dksX2_does_11 7 rfl rfl)
theorem dX2_does_305 : decode cX2_does 305 = .ok (.getfield 376, 3) := dk_180 1 120 (dk_at dksX2_does_11 9 rfl rfl)
theorem dX2_does_308 : decode cX2_does 308 = .ok (.aload 5, 2) := dk_25 5 (dk_at dksX2_does_11 12 rfl rfl)
theorem dX2_does_310 : decode cX2_does 310 = .ok (.invokevirtual 363, 3) := dk_182 1 107 (dk_at dksX2_does_11 14 rfl rfl)
theorem dX2_does_313 : decode cX2_does 313 = .ok (.areturn, 1) := dk_176 (dk_at dksX2_does_11 17 rfl rfl)
theorem dX2_does_314 : decode cX2_does 314 = .ok (.iconst 2, 1) := dk_5 (dk_at dksX2_does_11 18 rfl rfl)
theorem dX2_does_315 : decode cX2_does 315 = .ok (.iload_n 1, 1) := dk_27 (dk_at dksX2_does_11 19 rfl rfl)
theorem dX2_does_316 : decode cX2_does 316 = .ok (.invokestatic 349, 3) := dk_184 1 93 (dk_at dksX2_does_11 20 rfl rfl)
theorem dX2_does_319 : decode cX2_does 319 = .ok (.astore 6, 2) := dk_58 6 (dk_at dksX2_does_12 0 rfl rfl)
theorem dX2_does_321 : decode cX2_does 321 = .ok (.aload 6, 2) := dk_25 6 (dk_at dksX2_does_12 2 rfl rfl)
theorem dX2_does_323 : decode cX2_does 323 = .ok (.aload_n 2, 1) := dk_44 (dk_at dksX2_does_12 4 rfl rfl)
theorem dX2_does_324 : decode cX2_does 324 = .ok (.putfield 379, 3) := dk_181 1 123 (dk_at dksX2_does_12 5 rfl rfl)
theorem dX2_does_327 : decode cX2_does 327 = .ok (.aload 6, 2) := dk_25 6 (dk_at dksX2_does_12 8 rfl rfl)
theorem dX2_does_329 : decode cX2_does 329 = .ok (.areturn, 1) := dk_176 (dk_at dksX2_does_12 10 rfl rfl)
theorem dX2_does_330 : decode cX2_does 330 = .ok (.aload_n 0, 1) := dk_42 (dk_at dksX2_does_12 11 rfl rfl)
theorem dX2_does_331 : decode cX2_does 331 = .ok (.aload_n 0, 1) := dk_42 (dk_at dksX2_does_12 12 rfl rfl)
theorem dX2_does_332 : decode cX2_does 332 = .ok (.getfield 16, 3) := dk_180 0 16 (dk_at dksX2_does_12 13 rfl rfl)
theorem dX2_does_335 : decode cX2_does 335 = .ok (.aload_n 3, 1) := dk_45 (dk_at dksX2_does_12 16 rfl rfl)
theorem dX2_does_336 : decode cX2_does 336 = .ok (.getfield 346, 3) := dk_180 1 90 (dk_at dksX2_does_12 17 rfl rfl)
theorem dX2_does_339 : decode cX2_does 339 = .ok (.iaload, 1) := dk_46 (dk_at dksX2_does_12 20 rfl rfl)
theorem dX2_does_340 : decode cX2_does 340 = .ok (.new 368, 3) := dk_187 1 112 (dk_at dksX2_does_12 21 rfl rfl)
theorem dX2_does_343 : decode cX2_does 343 = .ok (.dup, 1) := dk_89 (dk_at dksX2_does_13 0 rfl rfl)
theorem dX2_does_344 : decode cX2_does 344 = .ok (.aload_n 0, 1) := dk_42 (dk_at dksX2_does_13 1 rfl rfl)
theorem dX2_does_345 : decode cX2_does 345 = .ok (.getfield 13, 3) := dk_180 0 13 (dk_at dksX2_does_13 2 rfl rfl)
theorem dX2_does_348 : decode cX2_does 348 = .ok (.aload_n 3, 1) := dk_45 (dk_at dksX2_does_13 5 rfl rfl)
theorem dX2_does_349 : decode cX2_does 349 = .ok (.getfield 346, 3) := dk_180 1 90 (dk_at dksX2_does_13 6 rfl rfl)
theorem dX2_does_352 : decode cX2_does 352 = .ok (.iaload, 1) := dk_46 (dk_at dksX2_does_13 9 rfl rfl)
theorem dX2_does_353 : decode cX2_does 353 = .ok (.aload 4, 2) := dk_25 4 (dk_at dksX2_does_13 10 rfl rfl)
theorem dX2_does_355 : decode cX2_does 355 = .ok (.iconst (-1), 1) := dk_2 (dk_at dksX2_does_13 12 rfl rfl)
theorem dX2_does_356 : decode cX2_does 356 = .ok (.aload_n 3, 1) := dk_45 (dk_at dksX2_does_13 13 rfl rfl)
theorem dX2_does_357 : decode cX2_does 357 = .ok (.getfield 379, 3) := dk_180 1 123 (dk_at dksX2_does_13 14 rfl rfl)
theorem dX2_does_360 : decode cX2_does 360 = .ok (.invokespecial 380, 3) := dk_183 1 124 (dk_at dksX2_does_13 17 rfl rfl)
theorem dX2_does_363 : decode cX2_does 363 = .ok (.invokevirtual 363, 3) := dk_182 1 107 (dk_at dksX2_does_13 20 rfl rfl)
theorem dX2_does_366 : decode cX2_does 366 = .ok (.areturn, 1) := dk_176 (dk_at dksX2_does_13 23 rfl rfl)
theorem dX2_does_367 : decode cX2_does 367 = .ok (.aload_n 0, 1) := dk_42 (dk_at dksX2_does_14 0 rfl rfl)
theorem dX2_does_368 : decode cX2_does 368 = .ok (.aload_n 0, 1) := dk_42 (dk_at dksX2_does_14 1 rfl rfl)
theorem dX2_does_369 : decode cX2_does 369 = .ok (.getfield 19, 3) := dk_180 0 19 (dk_at dksX2_does_14 2 rfl rfl)
theorem dX2_does_372 : decode cX2_does 372 = .ok (.iload_n 1, 1) := dk_27 (dk_at dksX2_does_14 5 rfl rfl)
theorem dX2_does_373 : decode cX2_does 373 = .ok (.iaload, 1) := dk_46 (dk_at dksX2_does_14 6 rfl rfl)
theorem dX2_does_374 : decode cX2_does 374 = .ok (.new 368, 3) := dk_187 1 112 (dk_at dksX2_does_14 7 rfl rfl)
theorem dX2_does_377 : decode cX2_does 377 = .ok (.dup, 1) := dk_89 (dk_at dksX2_does_14 10 rfl rfl)
theorem dX2_does_378 : decode cX2_does 378 = .ok (.aload_n 0, 1) := dk_42 (dk_at dksX2_does_14 11 rfl rfl)
theorem dX2_does_379 : decode cX2_does 379 = .ok (.getfield 13, 3) := dk_180 0 13 (dk_at dksX2_does_14 12 rfl rfl)
theorem dX2_does_382 : decode cX2_does 382 = .ok (.iload_n 1, 1) := dk_27 (dk_at dksX2_does_14 15 rfl rfl)
theorem dX2_does_383 : decode cX2_does 383 = .ok (.iaload, 1) := dk_46 (dk_at dksX2_does_14 16 rfl rfl)
theorem dX2_does_384 : decode cX2_does 384 = .ok (.aload_n 3, 1) := dk_45 (dk_at dksX2_does_14 17 rfl rfl)
theorem dX2_does_385 : decode cX2_does 385 = .ok (.iconst (-1), 1) := dk_2 (dk_at dksX2_does_14 18 rfl rfl)
theorem dX2_does_386 : decode cX2_does 386 = .ok (.aload_n 2, 1) := dk_44 (dk_at dksX2_does_14 19 rfl rfl)
theorem dX2_does_387 : decode cX2_does 387 = .ok (.invokespecial 380, 3) := dk_183 1 124 (dk_at dksX2_does_14 20 rfl rfl)
theorem dX2_does_390 : decode cX2_does 390 = .ok (.invokevirtual 363, 3) := dk_182 1 107 (dk_at dksX2_does_15 0 rfl rfl)
theorem dX2_does_393 : decode cX2_does 393 = .ok (.areturn, 1) := dk_176 (dk_at dksX2_does_15 3 rfl rfl)
theorem dX2_does_394 : decode cX2_does 394 = .ok (.aload_n 0, 1) := dk_42 (dk_at dksX2_does_15 4 rfl rfl)
theorem dX2_does_395 : decode cX2_does 395 = .ok (.aload_n 0, 1) := dk_42 (dk_at dksX2_does_15 5 rfl rfl)
theorem dX2_does_396 : decode cX2_does 396 = .ok (.getfield 16, 3) := dk_180 0 16 (dk_at dksX2_does_15 6 rfl rfl)
theorem dX2_does_399 : decode cX2_does 399 = .ok (.iload_n 1, 1) := dk_27 (dk_at dksX2_does_15 9 rfl rfl)
theorem dX2_does_400 : decode cX2_does 400 = .ok (.iaload, 1) := dk_46 (dk_at dksX2_does_15 10 rfl rfl)
theorem dX2_does_401 : decode cX2_does 401 = .ok (.new 368, 3) := dk_187 1 112 (dk_at dksX2_does_15 11 rfl rfl)
theorem dX2_does_404 : decode cX2_does 404 = .ok (.dup, 1) := dk_89 (dk_at dksX2_does_15 14 rfl rfl)
theorem dX2_does_405 : decode cX2_does 405 = .ok (.aload_n 0, 1) := dk_42 (dk_at dksX2_does_15 15 rfl rfl)
theorem dX2_does_406 : decode cX2_does 406 = .ok (.getfield 13, 3) := dk_180 0 13 (dk_at dksX2_does_15 16 rfl rfl)
theorem dX2_does_409 : decode cX2_does 409 = .ok (.iload_n 1, 1) := dk_27 (dk_at dksX2_does_15 19 rfl rfl)
theorem dX2_does_410 : decode cX2_does 410 = .ok (.iaload, 1) := dk_46 (dk_at dksX2_does_15 20 rfl rfl)
theorem dX2_does_411 : decode cX2_does 411 = .ok (.aconst_null, 1) := dk_1 (dk_at dksX2_does_15 21 rfl rfl)
theorem dX2_does_412 : decode cX2_does 412 = .ok (.aload_n 0, 1) := dk_42 (dk_at dksX2_does_15 22 rfl rfl)
theorem dX2_does_413 : decode cX2_does 413 = .ok (.getfield 16, 3) := dk_180 0 16 (dk_at dksX2_does_16 0 rfl rfl)
theorem dX2_does_416 : decode cX2_does 416 = .ok (.iload_n 1, 1) := dk_27 (dk_at dksX2_does_16 3 rfl rfl)
theorem dX2_does_417 : decode cX2_does 417 = .ok (.iaload, 1) := dk_46 (dk_at dksX2_does_16 4 rfl rfl)
theorem dX2_does_418 : decode cX2_does 418 = .ok (.aload_n 2, 1) := dk_44 (dk_at dksX2_does_16 5 rfl rfl)
theorem dX2_does_419 : decode cX2_does 419 = .ok (.invokespecial 380, 3) := dk_183 1 124 (dk_at dksX2_does_16 6 rfl rfl)
theorem dX2_does_422 : decode cX2_does 422 = .ok (.invokevirtual 363, 3) := dk_182 1 107 (dk_at dksX2_does_16 9 rfl rfl)
theorem dX2_does_425 : decode cX2_does 425 = .ok (.astore 7, 2) := dk_58 7 (dk_at dksX2_does_16 12 rfl rfl)
theorem dX2_does_427 : decode cX2_does 427 = .ok (.aload_n 0, 1) := dk_42 (dk_at dksX2_does_16 14 rfl rfl)
theorem dX2_does_428 : decode cX2_does 428 = .ok (.getfield 360, 3) := dk_180 1 104 (dk_at dksX2_does_16 15 rfl rfl)
theorem dX2_does_431 : decode cX2_does 431 = .ok (.ifCond .eq 7, 3) := dk_153 0 7 (dk_at dksX2_does_16 18 rfl rfl)
theorem dX2_does_434 : decode cX2_does 434 = .ok (.aconst_null, 1) := dk_1 (dk_at dksX2_does_16 21 rfl rfl)
theorem dX2_does_435 : decode cX2_does 435 = .ok (.goto 30, 3) := dk_167 0 30 (dk_at dksX2_does_17 0 rfl rfl)
theorem dX2_does_438 : decode cX2_does 438 = .ok (.aload_n 0, 1) := dk_42 (dk_at dksX2_does_17 3 rfl rfl)
theorem dX2_does_439 : decode cX2_does 439 = .ok (.aload_n 0, 1) := dk_42 (dk_at dksX2_does_17 4 rfl rfl)
theorem dX2_does_440 : decode cX2_does 440 = .ok (.getfield 19, 3) := dk_180 0 19 (dk_at dksX2_does_17 5 rfl rfl)
theorem dX2_does_443 : decode cX2_does 443 = .ok (.iload_n 1, 1) := dk_27 (dk_at dksX2_does_17 8 rfl rfl)
theorem dX2_does_444 : decode cX2_does 444 = .ok (.iaload, 1) := dk_46 (dk_at dksX2_does_17 9 rfl rfl)
theorem dX2_does_445 : decode cX2_does 445 = .ok (.new 368, 3) := dk_187 1 112 (dk_at dksX2_does_17 10 rfl rfl)
theorem dX2_does_448 : decode cX2_does 448 = .ok (.dup, 1) := dk_89 (dk_at dksX2_does_17 13 rfl rfl)
theorem dX2_does_449 : decode cX2_does 449 = .ok (.aload_n 0, 1) := dk_42 (dk_at dksX2_does_17 14 rfl rfl)
theorem dX2_does_450 : decode cX2_does 450 = .ok (.getfield 13, 3) := dk_180 0 13 (dk_at dksX2_does_17 15 rfl rfl)
theorem dX2_does_453 : decode cX2_does 453 = .ok (.iload_n 1, 1) := dk_27 (dk_at dksX2_does_17 18 rfl rfl)
theorem dX2_does_454 : decode cX2_does 454 = .ok (.iaload, 1) := dk_46 (dk_at dksX2_does_17 19 rfl rfl)
theorem dX2_does_455 : decode cX2_does 455 = .ok (.aload 7, 2) := dk_25 7 (dk_at dksX2_does_17 20 rfl rfl)
theorem dX2_does_457 : decode cX2_does 457 = .ok (.iconst (-1), 1) := dk_2 (dk_at dksX2_does_17 22 rfl rfl)
theorem dX2_does_458 : decode cX2_does 458 = .ok (.aload_n 2, 1) := dk_44 (dk_at dksX2_does_17 23 rfl rfl)
theorem dX2_does_459 : decode cX2_does 459 = .ok (.invokespecial 380, 3) := dk_183 1 124 (dk_at dksX2_does_18 0 rfl rfl)
theorem dX2_does_462 : decode cX2_does 462 = .ok (.invokevirtual 363, 3) := dk_182 1 107 (dk_at dksX2_does_18 3 rfl rfl)
theorem dX2_does_465 : decode cX2_does 465 = .ok (.areturn, 1) := dk_176 (dk_at dksX2_does_18 6 rfl rfl)
theorem dX2_does_466 : decode cX2_does 466 = .ok (.aconst_null, 1) := dk_1 (dk_at dksX2_does_18 7 rfl rfl)
theorem dX2_does_467 : decode cX2_does 467 = .ok (.iconst (-1), 1) := dk_2 (dk_at dksX2_does_18 8 rfl rfl)
theorem dX2_does_468 : decode cX2_does 468 = .ok (.aconst_null, 1) := dk_1 (dk_at dksX2_does_18 9 rfl rfl)
theorem dX2_does_469 : decode cX2_does 469 = .ok (.invokestatic 383, 3) := dk_184 1 127 (dk_at dksX2_does_18 10 rfl rfl)
theorem dX2_does_472 : decode cX2_does 472 = .ok (.areturn, 1) := dk_176 (dk_at dksX2_does_18 13 rfl rfl)
theorem dX2_does_473 : decode cX2_does 473 = .ok (.aload 4, 2) := dk_25 4 (dk_at dksX2_does_18 14 rfl rfl)
theorem dX2_does_475 : decode cX2_does 475 = .ok (.aload_n 0, 1) := dk_42 (dk_at dksX2_does_18 16 rfl rfl)
theorem dX2_does_476 : decode cX2_does 476 = .ok (.getfield 13, 3) := dk_180 0 13 (dk_at dksX2_does_18 17 rfl rfl)
theorem dX2_does_479 : decode cX2_does 479 = .ok (.iload_n 1, 1) := dk_27 (dk_at dksX2_does_18 20 rfl rfl)
theorem dX2_does_480 : decode cX2_does 480 = .ok (.iaload, 1) := dk_46 (dk_at dksX2_does_18 21 rfl rfl)
theorem dX2_does_481 : decode cX2_does 481 = .ok (.aload_n 3, 1) := dk_45 (dk_at dksX2_does_18 22 rfl rfl)
theorem dX2_does_482 : decode cX2_does 482 = .ok (.invokestatic 383, 3) := dk_184 1 127 (dk_at dksX2_does_19 0 rfl rfl)
theorem dX2_does_485 : decode cX2_does 485 = .ok (.areturn, 1) := dk_176 (dk_at dksX2_does_19 3 rfl rfl)
theorem dX2_does_486 : decode cX2_does 486 = .ok (.aload_n 3, 1) := dk_45 (dk_at dksX2_does_19 4 rfl rfl)
theorem dX2_does_487 : decode cX2_does 487 = .ok (.getfield 353, 3) := dk_180 1 97 (dk_at dksX2_does_19 5 rfl rfl)
theorem dX2_does_490 : decode cX2_does 490 = .ok (.aload_n 0, 1) := dk_42 (dk_at dksX2_does_19 8 rfl rfl)
theorem dX2_does_491 : decode cX2_does 491 = .ok (.getfield 13, 3) := dk_180 0 13 (dk_at dksX2_does_19 9 rfl rfl)
theorem dX2_does_494 : decode cX2_does 494 = .ok (.iload_n 1, 1) := dk_27 (dk_at dksX2_does_19 12 rfl rfl)
theorem dX2_does_495 : decode cX2_does 495 = .ok (.iaload, 1) := dk_46 (dk_at dksX2_does_19 13 rfl rfl)
theorem dX2_does_496 : decode cX2_does 496 = .ok (.aaload, 1) := dk_50 (dk_at dksX2_does_19 14 rfl rfl)
theorem dX2_does_497 : decode cX2_does 497 = .ok (.areturn, 1) := dk_176 (dk_at dksX2_does_19 15 rfl rfl)
theorem dX2_does_498 : decode cX2_does 498 = .ok (.aload_n 3, 1) := dk_45 (dk_at dksX2_does_19 16 rfl rfl)
theorem dX2_does_499 : decode cX2_does 499 = .ok (.aload_n 0, 1) := dk_42 (dk_at dksX2_does_19 17 rfl rfl)
theorem dX2_does_500 : decode cX2_does 500 = .ok (.getfield 13, 3) := dk_180 0 13 (dk_at dksX2_does_19 18 rfl rfl)
theorem dX2_does_503 : decode cX2_does 503 = .ok (.iload_n 1, 1) := dk_27 (dk_at dksX2_does_19 21 rfl rfl)
theorem dX2_does_504 : decode cX2_does 504 = .ok (.iaload, 1) := dk_46 (dk_at dksX2_does_19 22 rfl rfl)
theorem dX2_does_505 : decode cX2_does 505 = .ok (.aconst_null, 1) := dk_1 (dk_at dksX2_does_19 23 rfl rfl)
theorem dX2_does_506 : decode cX2_does 506 = .ok (.invokestatic 383, 3) := dk_184 1 127 (dk_at dksX2_does_20 0 rfl rfl)
theorem dX2_does_509 : decode cX2_does 509 = .ok (.areturn, 1) := dk_176 (dk_at dksX2_does_20 3 rfl rfl)
theorem dX2_does_510 : decode cX2_does 510 = .ok (.iconst 4, 1) := dk_7 (dk_at dksX2_does_20 4 rfl rfl)
theorem dX2_does_511 : decode cX2_does 511 = .ok (.aload_n 0, 1) := dk_42 (dk_at dksX2_does_20 5 rfl rfl)
theorem dX2_does_512 : decode cX2_does 512 = .ok (.getfield 13, 3) := dk_180 0 13 (dk_at dksX2_does_20 6 rfl rfl)
theorem dX2_does_515 : decode cX2_does 515 = .ok (.iload_n 1, 1) := dk_27 (dk_at dksX2_does_20 9 rfl rfl)
theorem dX2_does_516 : decode cX2_does 516 = .ok (.iaload, 1) := dk_46 (dk_at dksX2_does_20 10 rfl rfl)
theorem dX2_does_517 : decode cX2_does 517 = .ok (.invokestatic 349, 3) := dk_184 1 93 (dk_at dksX2_does_20 11 rfl rfl)
theorem dX2_does_520 : decode cX2_does 520 = .ok (.astore 8, 2) := dk_58 8 (dk_at dksX2_does_20 14 rfl rfl)
theorem dX2_does_522 : decode cX2_does 522 = .ok (.aload 8, 2) := dk_25 8 (dk_at dksX2_does_20 16 rfl rfl)
theorem dX2_does_524 : decode cX2_does 524 = .ok (.aload_n 3, 1) := dk_45 (dk_at dksX2_does_20 18 rfl rfl)
theorem dX2_does_525 : decode cX2_does 525 = .ok (.putfield 387, 3) := dk_181 1 131 (dk_at dksX2_does_20 19 rfl rfl)
theorem dX2_does_528 : decode cX2_does 528 = .ok (.aload 8, 2) := dk_25 8 (dk_at dksX2_does_20 22 rfl rfl)
theorem dX2_does_530 : decode cX2_does 530 = .ok (.areturn, 1) := dk_176 (dk_at dksX2_does_21 0 rfl rfl)
theorem dX2_does_531 : decode cX2_does 531 = .ok (.aload_n 0, 1) := dk_42 (dk_at dksX2_does_21 1 rfl rfl)
theorem dX2_does_532 : decode cX2_does 532 = .ok (.getfield 19, 3) := dk_180 0 19 (dk_at dksX2_does_21 2 rfl rfl)
theorem dX2_does_535 : decode cX2_does 535 = .ok (.iload_n 1, 1) := dk_27 (dk_at dksX2_does_21 5 rfl rfl)
theorem dX2_does_536 : decode cX2_does 536 = .ok (.iaload, 1) := dk_46 (dk_at dksX2_does_21 6 rfl rfl)
theorem dX2_does_537 : decode cX2_does 537 = .ok (.istore 9, 2) := dk_54 9 (dk_at dksX2_does_21 7 rfl rfl)
theorem dX2_does_539 : decode cX2_does 539 = .ok (.aload_n 0, 1) := dk_42 (dk_at dksX2_does_21 9 rfl rfl)
theorem dX2_does_540 : decode cX2_does 540 = .ok (.getfield 7, 3) := dk_180 0 7 (dk_at dksX2_does_21 10 rfl rfl)
theorem dX2_does_543 : decode cX2_does 543 = .ok (.iload 9, 2) := dk_21 9 (dk_at dksX2_does_21 13 rfl rfl)
theorem dX2_does_545 : decode cX2_does 545 = .ok (.iaload, 1) := dk_46 (dk_at dksX2_does_21 15 rfl rfl)
theorem dX2_does_546 : decode cX2_does 546 = .ok (.bipush 17, 2) := dk_16 17 (dk_at dksX2_does_21 16 rfl rfl)
theorem dX2_does_548 : decode cX2_does 548 = .ok (.if_icmp .ne 32, 3) := dk_160 0 32 (dk_at dksX2_does_21 18 rfl rfl)
theorem dX2_does_551 : decode cX2_does 551 = .ok (.aload_n 0, 1) := dk_42 (dk_at dksX2_does_21 21 rfl rfl)
theorem dX2_does_552 : decode cX2_does 552 = .ok (.getfield 13, 3) := dk_180 0 13 (dk_at dksX2_does_22 0 rfl rfl)
theorem dX2_does_555 : decode cX2_does 555 = .ok (.iload 9, 2) := dk_21 9 (dk_at dksX2_does_22 3 rfl rfl)
theorem dX2_does_557 : decode cX2_does 557 = .ok (.iaload, 1) := dk_46 (dk_at dksX2_does_22 5 rfl rfl)
theorem dX2_does_558 : decode cX2_does 558 = .ok (.bipush 10, 2) := dk_16 10 (dk_at dksX2_does_22 6 rfl rfl)
theorem dX2_does_560 : decode cX2_does 560 = .ok (.idiv, 1) := dk_108 (dk_at dksX2_does_22 8 rfl rfl)
theorem dX2_does_561 : decode cX2_does 561 = .ok (.aload_n 3, 1) := dk_45 (dk_at dksX2_does_22 9 rfl rfl)
theorem dX2_does_562 : decode cX2_does 562 = .ok (.getfield 346, 3) := dk_180 1 90 (dk_at dksX2_does_22 10 rfl rfl)
theorem dX2_does_565 : decode cX2_does 565 = .ok (.if_icmp .eq 15, 3) := dk_159 0 15 (dk_at dksX2_does_22 13 rfl rfl)
theorem dX2_does_568 : decode cX2_does 568 = .ok (.aload_n 0, 1) := dk_42 (dk_at dksX2_does_22 16 rfl rfl)
theorem dX2_does_569 : decode cX2_does 569 = .ok (.getfield 19, 3) := dk_180 0 19 (dk_at dksX2_does_22 17 rfl rfl)
theorem dX2_does_572 : decode cX2_does 572 = .ok (.iload 9, 2) := dk_21 9 (dk_at dksX2_does_22 20 rfl rfl)
theorem dX2_does_574 : decode cX2_does 574 = .ok (.iaload, 1) := dk_46 (dk_at dksX2_does_22 22 rfl rfl)
theorem dX2_does_575 : decode cX2_does 575 = .ok (.istore 9, 2) := dk_54 9 (dk_at dksX2_does_23 0 rfl rfl)
theorem dX2_does_577 : decode cX2_does 577 = .ok (.goto (-38), 3) := dk_167 255 218 (dk_at dksX2_does_23 2 rfl rfl)
theorem dX2_does_580 : decode cX2_does 580 = .ok (.aload_n 0, 1) := dk_42 (dk_at dksX2_does_23 5 rfl rfl)
theorem dX2_does_581 : decode cX2_does 581 = .ok (.getfield 7, 3) := dk_180 0 7 (dk_at dksX2_does_23 6 rfl rfl)
theorem dX2_does_584 : decode cX2_does 584 = .ok (.iload 9, 2) := dk_21 9 (dk_at dksX2_does_23 9 rfl rfl)
theorem dX2_does_586 : decode cX2_does 586 = .ok (.iaload, 1) := dk_46 (dk_at dksX2_does_23 11 rfl rfl)
theorem dX2_does_587 : decode cX2_does 587 = .ok (.bipush 17, 2) := dk_16 17 (dk_at dksX2_does_23 12 rfl rfl)
theorem dX2_does_589 : decode cX2_does 589 = .ok (.if_icmp .ne 7, 3) := dk_160 0 7 (dk_at dksX2_does_23 14 rfl rfl)
theorem dX2_does_592 : decode cX2_does 592 = .ok (.iconst 1, 1) := dk_4 (dk_at dksX2_does_23 17 rfl rfl)
theorem dX2_does_593 : decode cX2_does 593 = .ok (.goto 4, 3) := dk_167 0 4 (dk_at dksX2_does_23 18 rfl rfl)
theorem dX2_does_596 : decode cX2_does 596 = .ok (.iconst 0, 1) := dk_3 (dk_at dksX2_does_23 21 rfl rfl)
theorem dX2_does_597 : decode cX2_does 597 = .ok (.istore 10, 2) := dk_54 10 (dk_at dksX2_does_23 22 rfl rfl)
theorem dX2_does_599 : decode cX2_does 599 = .ok (.aload_n 0, 1) := dk_42 (dk_at dksX2_does_24 0 rfl rfl)
theorem dX2_does_600 : decode cX2_does 600 = .ok (.aload_n 0, 1) := dk_42 (dk_at dksX2_does_24 1 rfl rfl)
theorem dX2_does_601 : decode cX2_does 601 = .ok (.getfield 16, 3) := dk_180 0 16 (dk_at dksX2_does_24 2 rfl rfl)
theorem dX2_does_604 : decode cX2_does 604 = .ok (.iload 9, 2) := dk_21 9 (dk_at dksX2_does_24 5 rfl rfl)
theorem dX2_does_606 : decode cX2_does 606 = .ok (.iaload, 1) := dk_46 (dk_at dksX2_does_24 7 rfl rfl)
theorem dX2_does_607 : decode cX2_does 607 = .ok (.new 368, 3) := dk_187 1 112 (dk_at dksX2_does_24 8 rfl rfl)
theorem dX2_does_610 : decode cX2_does 610 = .ok (.dup, 1) := dk_89 (dk_at dksX2_does_24 11 rfl rfl)
theorem dX2_does_611 : decode cX2_does 611 = .ok (.iload 10, 2) := dk_21 10 (dk_at dksX2_does_24 12 rfl rfl)
theorem dX2_does_613 : decode cX2_does 613 = .ok (.ifCond .eq 16, 3) := dk_153 0 16 (dk_at dksX2_does_24 14 rfl rfl)
theorem dX2_does_616 : decode cX2_does 616 = .ok (.aload_n 0, 1) := dk_42 (dk_at dksX2_does_24 17 rfl rfl)
theorem dX2_does_617 : decode cX2_does 617 = .ok (.getfield 13, 3) := dk_180 0 13 (dk_at dksX2_does_24 18 rfl rfl)
theorem dX2_does_620 : decode cX2_does 620 = .ok (.iload 9, 2) := dk_21 9 (dk_at dksX2_does_24 21 rfl rfl)
theorem dX2_does_622 : decode cX2_does 622 = .ok (.iaload, 1) := dk_46 (dk_at dksX2_does_24 23 rfl rfl)
theorem dX2_does_623 : decode cX2_does 623 = .ok (.bipush 10, 2) := dk_16 10 (dk_at dksX2_does_25 0 rfl rfl)
theorem dX2_does_625 : decode cX2_does 625 = .ok (.irem, 1) := dk_112 (dk_at dksX2_does_25 2 rfl rfl)
theorem dX2_does_626 : decode cX2_does 626 = .ok (.goto 10, 3) := dk_167 0 10 (dk_at dksX2_does_25 3 rfl rfl)
theorem dX2_does_629 : decode cX2_does 629 = .ok (.aload_n 0, 1) := dk_42 (dk_at dksX2_does_25 6 rfl rfl)
theorem dX2_does_630 : decode cX2_does 630 = .ok (.getfield 13, 3) := dk_180 0 13 (dk_at dksX2_does_25 7 rfl rfl)
theorem dX2_does_633 : decode cX2_does 633 = .ok (.iload 9, 2) := dk_21 9 (dk_at dksX2_does_25 10 rfl rfl)
theorem dX2_does_635 : decode cX2_does 635 = .ok (.iaload, 1) := dk_46 (dk_at dksX2_does_25 12 rfl rfl)
theorem dX2_does_636 : decode cX2_does 636 = .ok (.iload 10, 2) := dk_21 10 (dk_at dksX2_does_25 13 rfl rfl)
theorem dX2_does_638 : decode cX2_does 638 = .ok (.ifCond .eq 10, 3) := dk_153 0 10 (dk_at dksX2_does_25 15 rfl rfl)
theorem dX2_does_641 : decode cX2_does 641 = .ok (.aload_n 3, 1) := dk_45 (dk_at dksX2_does_25 18 rfl rfl)
theorem dX2_does_642 : decode cX2_does 642 = .ok (.getfield 387, 3) := dk_180 1 131 (dk_at dksX2_does_25 19 rfl rfl)
theorem dX2_does_645 : decode cX2_does 645 = .ok (.goto 4, 3) := dk_167 0 4 (dk_at dksX2_does_26 0 rfl rfl)
theorem dX2_does_648 : decode cX2_does 648 = .ok (.aload_n 3, 1) := dk_45 (dk_at dksX2_does_26 3 rfl rfl)
theorem dX2_does_649 : decode cX2_does 649 = .ok (.iconst (-1), 1) := dk_2 (dk_at dksX2_does_26 4 rfl rfl)
theorem dX2_does_650 : decode cX2_does 650 = .ok (.aload_n 2, 1) := dk_44 (dk_at dksX2_does_26 5 rfl rfl)
theorem dX2_does_651 : decode cX2_does 651 = .ok (.invokespecial 380, 3) := dk_183 1 124 (dk_at dksX2_does_26 6 rfl rfl)
theorem dX2_does_654 : decode cX2_does 654 = .ok (.invokevirtual 363, 3) := dk_182 1 107 (dk_at dksX2_does_26 9 rfl rfl)
theorem dX2_does_657 : decode cX2_does 657 = .ok (.areturn, 1) := dk_176 (dk_at dksX2_does_26 12 rfl rfl)
theorem dX2_does_658 : decode cX2_does 658 = .ok (.aload_n 0, 1) := dk_42 (dk_at dksX2_does_26 13 rfl rfl)
theorem dX2_does_659 : decode cX2_does 659 = .ok (.aload_n 3, 1) := dk_45 (dk_at dksX2_does_26 14 rfl rfl)
theorem dX2_does_660 : decode cX2_does 660 = .ok (.getfield 346, 3) := dk_180 1 90 (dk_at dksX2_does_26 15 rfl rfl)
theorem dX2_does_663 : decode cX2_does 663 = .ok (.ifCond .eq 12, 3) := dk_153 0 12 (dk_at dksX2_does_26 18 rfl rfl)
theorem dX2_does_666 : decode cX2_does 666 = .ok (.aload_n 0, 1) := dk_42 (dk_at dksX2_does_26 21 rfl rfl)
theorem dX2_does_667 : decode cX2_does 667 = .ok (.getfield 19, 3) := dk_180 0 19 (dk_at dksX2_does_27 0 rfl rfl)
theorem dX2_does_670 : decode cX2_does 670 = .ok (.iload_n 1, 1) := dk_27 (dk_at dksX2_does_27 3 rfl rfl)
theorem dX2_does_671 : decode cX2_does 671 = .ok (.iaload, 1) := dk_46 (dk_at dksX2_does_27 4 rfl rfl)
theorem dX2_does_672 : decode cX2_does 672 = .ok (.goto 9, 3) := dk_167 0 9 (dk_at dksX2_does_27 5 rfl rfl)
theorem dX2_does_675 : decode cX2_does 675 = .ok (.aload_n 0, 1) := dk_42 (dk_at dksX2_does_27 8 rfl rfl)
theorem dX2_does_676 : decode cX2_does 676 = .ok (.getfield 22, 3) := dk_180 0 22 (dk_at dksX2_does_27 9 rfl rfl)
theorem dX2_does_679 : decode cX2_does 679 = .ok (.iload_n 1, 1) := dk_27 (dk_at dksX2_does_27 12 rfl rfl)
theorem dX2_does_680 : decode cX2_does 680 = .ok (.iaload, 1) := dk_46 (dk_at dksX2_does_27 13 rfl rfl)
theorem dX2_does_681 : decode cX2_does 681 = .ok (.aload_n 2, 1) := dk_44 (dk_at dksX2_does_27 14 rfl rfl)
theorem dX2_does_682 : decode cX2_does 682 = .ok (.invokevirtual 363, 3) := dk_182 1 107 (dk_at dksX2_does_27 15 rfl rfl)
theorem dX2_does_685 : decode cX2_does 685 = .ok (.areturn, 1) := dk_176 (dk_at dksX2_does_27 18 rfl rfl)
theorem dX2_does_686 : decode cX2_does 686 = .ok (.iconst 1, 1) := dk_4 (dk_at dksX2_does_27 19 rfl rfl)
theorem dX2_does_687 : decode cX2_does 687 = .ok (.aload_n 3, 1) := dk_45 (dk_at dksX2_does_27 20 rfl rfl)
theorem dX2_does_688 : decode cX2_does 688 = .ok (.getfield 346, 3) := dk_180 1 90 (dk_at dksX2_does_27 21 rfl rfl)
theorem dX2_does_691 : decode cX2_does 691 = .ok (.aload 4, 2) := dk_25 4 (dk_at dksX2_does_28 0 rfl rfl)
theorem dX2_does_693 : decode cX2_does 693 = .ok (.getfield 346, 3) := dk_180 1 90 (dk_at dksX2_does_28 2 rfl rfl)
theorem dX2_does_696 : decode cX2_does 696 = .ok (.iadd, 1) := dk_96 (dk_at dksX2_does_28 5 rfl rfl)
theorem dX2_does_697 : decode cX2_does 697 = .ok (.invokestatic 349, 3) := dk_184 1 93 (dk_at dksX2_does_28 6 rfl rfl)
theorem dX2_does_700 : decode cX2_does 700 = .ok (.areturn, 1) := dk_176 (dk_at dksX2_does_28 9 rfl rfl)
theorem dX2_does_701 : decode cX2_does 701 = .ok (.aload_n 0, 1) := dk_42 (dk_at dksX2_does_28 10 rfl rfl)
theorem dX2_does_702 : decode cX2_does 702 = .ok (.aload_n 3, 1) := dk_45 (dk_at dksX2_does_28 11 rfl rfl)
theorem dX2_does_703 : decode cX2_does 703 = .ok (.aload 4, 2) := dk_25 4 (dk_at dksX2_does_28 12 rfl rfl)
theorem dX2_does_705 : decode cX2_does 705 = .ok (.invokevirtual 390, 3) := dk_182 1 134 (dk_at dksX2_does_28 14 rfl rfl)
theorem dX2_does_708 : decode cX2_does 708 = .ok (.istore 11, 2) := dk_54 11 (dk_at dksX2_does_28 17 rfl rfl)
theorem dX2_does_710 : decode cX2_does 710 = .ok (.aload_n 0, 1) := dk_42 (dk_at dksX2_does_28 19 rfl rfl)
theorem dX2_does_711 : decode cX2_does 711 = .ok (.getfield 360, 3) := dk_180 1 104 (dk_at dksX2_does_28 20 rfl rfl)
theorem dX2_does_714 : decode cX2_does 714 = .ok (.ifCond .eq 7, 3) := dk_153 0 7 (dk_at dksX2_does_29 0 rfl rfl)
theorem dX2_does_717 : decode cX2_does 717 = .ok (.aconst_null, 1) := dk_1 (dk_at dksX2_does_29 3 rfl rfl)
theorem dX2_does_718 : decode cX2_does 718 = .ok (.goto 17, 3) := dk_167 0 17 (dk_at dksX2_does_29 4 rfl rfl)
theorem dX2_does_721 : decode cX2_does 721 = .ok (.iconst 1, 1) := dk_4 (dk_at dksX2_does_29 7 rfl rfl)
theorem dX2_does_722 : decode cX2_does 722 = .ok (.iload 11, 2) := dk_21 11 (dk_at dksX2_does_29 8 rfl rfl)
theorem dX2_does_724 : decode cX2_does 724 = .ok (.ifCond .eq 7, 3) := dk_153 0 7 (dk_at dksX2_does_29 10 rfl rfl)
theorem dX2_does_727 : decode cX2_does 727 = .ok (.iconst 1, 1) := dk_4 (dk_at dksX2_does_29 13 rfl rfl)
theorem dX2_does_728 : decode cX2_does 728 = .ok (.goto 4, 3) := dk_167 0 4 (dk_at dksX2_does_29 14 rfl rfl)
theorem dX2_does_731 : decode cX2_does 731 = .ok (.iconst 0, 1) := dk_3 (dk_at dksX2_does_29 17 rfl rfl)
theorem dX2_does_732 : decode cX2_does 732 = .ok (.invokestatic 349, 3) := dk_184 1 93 (dk_at dksX2_does_29 18 rfl rfl)
theorem dX2_does_735 : decode cX2_does 735 = .ok (.areturn, 1) := dk_176 (dk_at dksX2_does_29 21 rfl rfl)
abbrev cX2_value : ByteArray := prog_45_method_52_code
def yX2_value : MethodName := ⟨RX2, "value", "(II)LRowenTongueModel$Value;"⟩
def dkwX2_value_0 : List UInt8 := [187, 1, 86, 89, 183, 1, 88, 77, 44, 26, 181, 1, 89, 44, 27, 181, 1, 90, 44, 176]
abbrev dktX2_value_0 : List UInt8 := dkwX2_value_0 ++ []
theorem dksX2_value_0 : cX2_value.data.toList.drop 0 = dktX2_value_0 := by decide +kernel
theorem dX2_value_0 : decode cX2_value 0 = .ok (.new 342, 3) := dk_187 1 86 (dk_at dksX2_value_0 0 rfl rfl)
theorem dX2_value_3 : decode cX2_value 3 = .ok (.dup, 1) := dk_89 (dk_at dksX2_value_0 3 rfl rfl)
theorem dX2_value_4 : decode cX2_value 4 = .ok (.invokespecial 344, 3) := dk_183 1 88 (dk_at dksX2_value_0 4 rfl rfl)
theorem dX2_value_7 : decode cX2_value 7 = .ok (.astore_n 2, 1) := dk_77 (dk_at dksX2_value_0 7 rfl rfl)
theorem dX2_value_8 : decode cX2_value 8 = .ok (.aload_n 2, 1) := dk_44 (dk_at dksX2_value_0 8 rfl rfl)
theorem dX2_value_9 : decode cX2_value 9 = .ok (.iload_n 0, 1) := dk_26 (dk_at dksX2_value_0 9 rfl rfl)
theorem dX2_value_10 : decode cX2_value 10 = .ok (.putfield 345, 3) := dk_181 1 89 (dk_at dksX2_value_0 10 rfl rfl)
theorem dX2_value_13 : decode cX2_value 13 = .ok (.aload_n 2, 1) := dk_44 (dk_at dksX2_value_0 13 rfl rfl)
theorem dX2_value_14 : decode cX2_value 14 = .ok (.iload_n 1, 1) := dk_27 (dk_at dksX2_value_0 14 rfl rfl)
theorem dX2_value_15 : decode cX2_value 15 = .ok (.putfield 346, 3) := dk_181 1 90 (dk_at dksX2_value_0 15 rfl rfl)
theorem dX2_value_18 : decode cX2_value 18 = .ok (.aload_n 2, 1) := dk_44 (dk_at dksX2_value_0 18 rfl rfl)
theorem dX2_value_19 : decode cX2_value 19 = .ok (.areturn, 1) := dk_176 (dk_at dksX2_value_0 19 rfl rfl)
abbrev cX2_record : ByteArray := prog_45_method_53_code
def yX2_record : MethodName := ⟨RX2, "record", "(LRowenTongueModel$Value;ILRowenTongueModel$Value;)LRowenTongueModel$Value;"⟩
def dkwX2_record_2 : List UInt8 := [167, 0, 10, 42, 180, 1, 97, 21, 4, 50, 83, 132, 4, 1, 167, 255, 214, 45, 176]
abbrev dktX2_record_2 : List UInt8 := dkwX2_record_2 ++ []
def dkwX2_record_1 : List UInt8 := [162, 0, 41, 45, 180, 1, 97, 21, 4, 21, 4, 27, 160, 0, 7, 44, 167, 0, 18, 42, 199, 0, 7, 1]
abbrev dktX2_record_1 : List UInt8 := dkwX2_record_1 ++ dktX2_record_2
def dkwX2_record_0 : List UInt8 := [6, 3, 184, 1, 93, 78, 45, 16, 10, 189, 1, 86, 181, 1, 97, 3, 54, 4, 21, 4, 16, 10]
abbrev dktX2_record_0 : List UInt8 := dkwX2_record_0 ++ dktX2_record_1
theorem dksX2_record_0 : cX2_record.data.toList.drop 0 = dktX2_record_0 := by decide +kernel
theorem dksX2_record_1 : cX2_record.data.toList.drop 22 = dktX2_record_1 := dk_seg dksX2_record_0 22 rfl rfl
theorem dksX2_record_2 : cX2_record.data.toList.drop 46 = dktX2_record_2 := dk_seg dksX2_record_1 24 rfl rfl
theorem dX2_record_0 : decode cX2_record 0 = .ok (.iconst 3, 1) := dk_6 (dk_at dksX2_record_0 0 rfl rfl)
theorem dX2_record_1 : decode cX2_record 1 = .ok (.iconst 0, 1) := dk_3 (dk_at dksX2_record_0 1 rfl rfl)
theorem dX2_record_2 : decode cX2_record 2 = .ok (.invokestatic 349, 3) := dk_184 1 93 (dk_at dksX2_record_0 2 rfl rfl)
theorem dX2_record_5 : decode cX2_record 5 = .ok (.astore_n 3, 1) := dk_78 (dk_at dksX2_record_0 5 rfl rfl)
theorem dX2_record_6 : decode cX2_record 6 = .ok (.aload_n 3, 1) := dk_45 (dk_at dksX2_record_0 6 rfl rfl)
theorem dX2_record_7 : decode cX2_record 7 = .ok (.bipush 10, 2) := dk_16 10 (dk_at dksX2_record_0 7 rfl rfl)
theorem dX2_record_9 : decode cX2_record 9 = .ok (.anewarray 342, 3) := dk_189 1 86 (dk_at dksX2_record_0 9 rfl rfl)
theorem dX2_record_12 : decode cX2_record 12 = .ok (.putfield 353, 3) := dk_181 1 97 (dk_at dksX2_record_0 12 rfl rfl)
theorem dX2_record_15 : decode cX2_record 15 = .ok (.iconst 0, 1) := dk_3 (dk_at dksX2_record_0 15 rfl rfl)
theorem dX2_record_16 : decode cX2_record 16 = .ok (.istore 4, 2) := dk_54 4 (dk_at dksX2_record_0 16 rfl rfl)
theorem dX2_record_18 : decode cX2_record 18 = .ok (.iload 4, 2) := dk_21 4 (dk_at dksX2_record_0 18 rfl rfl)
theorem dX2_record_20 : decode cX2_record 20 = .ok (.bipush 10, 2) := dk_16 10 (dk_at dksX2_record_0 20 rfl rfl)
theorem dX2_record_22 : decode cX2_record 22 = .ok (.if_icmp .ge 41, 3) := dk_162 0 41 (dk_at dksX2_record_1 0 rfl rfl)
theorem dX2_record_25 : decode cX2_record 25 = .ok (.aload_n 3, 1) := dk_45 (dk_at dksX2_record_1 3 rfl rfl)
theorem dX2_record_26 : decode cX2_record 26 = .ok (.getfield 353, 3) := dk_180 1 97 (dk_at dksX2_record_1 4 rfl rfl)
theorem dX2_record_29 : decode cX2_record 29 = .ok (.iload 4, 2) := dk_21 4 (dk_at dksX2_record_1 7 rfl rfl)
theorem dX2_record_31 : decode cX2_record 31 = .ok (.iload 4, 2) := dk_21 4 (dk_at dksX2_record_1 9 rfl rfl)
theorem dX2_record_33 : decode cX2_record 33 = .ok (.iload_n 1, 1) := dk_27 (dk_at dksX2_record_1 11 rfl rfl)
theorem dX2_record_34 : decode cX2_record 34 = .ok (.if_icmp .ne 7, 3) := dk_160 0 7 (dk_at dksX2_record_1 12 rfl rfl)
theorem dX2_record_37 : decode cX2_record 37 = .ok (.aload_n 2, 1) := dk_44 (dk_at dksX2_record_1 15 rfl rfl)
theorem dX2_record_38 : decode cX2_record 38 = .ok (.goto 18, 3) := dk_167 0 18 (dk_at dksX2_record_1 16 rfl rfl)
theorem dX2_record_41 : decode cX2_record 41 = .ok (.aload_n 0, 1) := dk_42 (dk_at dksX2_record_1 19 rfl rfl)
theorem dX2_record_42 : decode cX2_record 42 = .ok (.ifnonnull 7, 3) := dk_199 0 7 (dk_at dksX2_record_1 20 rfl rfl)
theorem dX2_record_45 : decode cX2_record 45 = .ok (.aconst_null, 1) := dk_1 (dk_at dksX2_record_1 23 rfl rfl)
theorem dX2_record_46 : decode cX2_record 46 = .ok (.goto 10, 3) := dk_167 0 10 (dk_at dksX2_record_2 0 rfl rfl)
theorem dX2_record_49 : decode cX2_record 49 = .ok (.aload_n 0, 1) := dk_42 (dk_at dksX2_record_2 3 rfl rfl)
theorem dX2_record_50 : decode cX2_record 50 = .ok (.getfield 353, 3) := dk_180 1 97 (dk_at dksX2_record_2 4 rfl rfl)
theorem dX2_record_53 : decode cX2_record 53 = .ok (.iload 4, 2) := dk_21 4 (dk_at dksX2_record_2 7 rfl rfl)
theorem dX2_record_55 : decode cX2_record 55 = .ok (.aaload, 1) := dk_50 (dk_at dksX2_record_2 9 rfl rfl)
theorem dX2_record_56 : decode cX2_record 56 = .ok (.aastore, 1) := dk_83 (dk_at dksX2_record_2 10 rfl rfl)
theorem dX2_record_57 : decode cX2_record 57 = .ok (.iinc 4 1, 3) := dk_132 4 1 (dk_at dksX2_record_2 11 rfl rfl)
theorem dX2_record_60 : decode cX2_record 60 = .ok (.goto (-42), 3) := dk_167 255 214 (dk_at dksX2_record_2 14 rfl rfl)
theorem dX2_record_63 : decode cX2_record 63 = .ok (.aload_n 3, 1) := dk_45 (dk_at dksX2_record_2 17 rfl rfl)
theorem dX2_record_64 : decode cX2_record 64 = .ok (.areturn, 1) := dk_176 (dk_at dksX2_record_2 18 rfl rfl)
abbrev cX2_areSame : ByteArray := prog_45_method_55_code
def yX2_areSame : MethodName := ⟨RX2, "areSame", "(LRowenTongueModel$Value;LRowenTongueModel$Value;)Z"⟩
def dkwX2_areSame_6 : List UInt8 := [3, 62, 132, 4, 1, 167, 255, 205, 29, 172]
abbrev dktX2_areSame_6 : List UInt8 := dkwX2_areSame_6 ++ []
def dkwX2_areSame_5 : List UInt8 := [43, 180, 1, 97, 21, 4, 50, 44, 180, 1, 97, 21, 4, 50, 182, 1, 134, 153, 0, 7, 4, 167, 0, 4]
abbrev dktX2_areSame_5 : List UInt8 := dkwX2_areSame_5 ++ dktX2_areSame_6
def dkwX2_areSame_4 : List UInt8 := [54, 4, 21, 4, 16, 10, 162, 0, 50, 29, 153, 0, 46, 43, 180, 1, 97, 21, 4, 50, 198, 0, 24, 42]
abbrev dktX2_areSame_4 : List UInt8 := dkwX2_areSame_4 ++ dktX2_areSame_5
def dkwX2_areSame_3 : List UInt8 := [42, 43, 180, 1, 131, 44, 180, 1, 131, 182, 1, 134, 153, 0, 7, 4, 167, 0, 4, 3, 172, 4, 62, 3]
abbrev dktX2_areSame_3 : List UInt8 := dkwX2_areSame_3 ++ dktX2_areSame_4
def dkwX2_areSame_2 : List UInt8 := [167, 0, 4, 3, 172, 43, 180, 1, 89, 7, 160, 0, 35, 43, 180, 1, 90, 44, 180, 1, 90, 160, 0, 22]
abbrev dktX2_areSame_2 : List UInt8 := dkwX2_areSame_2 ++ dktX2_areSame_3
def dkwX2_areSame_1 : List UInt8 := [181, 1, 101, 43, 180, 1, 89, 4, 160, 0, 20, 43, 180, 1, 90, 44, 180, 1, 90, 160, 0, 7, 4]
abbrev dktX2_areSame_1 : List UInt8 := dkwX2_areSame_1 ++ dktX2_areSame_2
def dkwX2_areSame_0 : List UInt8 := [42, 180, 1, 101, 17, 3, 232, 160, 0, 10, 42, 4, 181, 1, 104, 3, 172, 42, 89, 180, 1, 101, 4, 96]
abbrev dktX2_areSame_0 : List UInt8 := dkwX2_areSame_0 ++ dktX2_areSame_1
theorem dksX2_areSame_0 : cX2_areSame.data.toList.drop 0 = dktX2_areSame_0 := by decide +kernel
theorem dksX2_areSame_1 : cX2_areSame.data.toList.drop 24 = dktX2_areSame_1 := dk_seg dksX2_areSame_0 24 rfl rfl
theorem dksX2_areSame_2 : cX2_areSame.data.toList.drop 47 = dktX2_areSame_2 := dk_seg dksX2_areSame_1 23 rfl rfl
theorem dksX2_areSame_3 : cX2_areSame.data.toList.drop 71 = dktX2_areSame_3 := dk_seg dksX2_areSame_2 24 rfl rfl
theorem dksX2_areSame_4 : cX2_areSame.data.toList.drop 95 = dktX2_areSame_4 := dk_seg dksX2_areSame_3 24 rfl rfl
theorem dksX2_areSame_5 : cX2_areSame.data.toList.drop 119 = dktX2_areSame_5 := dk_seg dksX2_areSame_4 24 rfl rfl
theorem dksX2_areSame_6 : cX2_areSame.data.toList.drop 143 = dktX2_areSame_6 := dk_seg dksX2_areSame_5 24 rfl rfl
theorem dX2_areSame_0 : decode cX2_areSame 0 = .ok (.aload_n 0, 1) := dk_42 (dk_at dksX2_areSame_0 0 rfl rfl)
theorem dX2_areSame_1 : decode cX2_areSame 1 = .ok (.getfield 357, 3) := dk_180 1 101 (dk_at dksX2_areSame_0 1 rfl rfl)
theorem dX2_areSame_4 : decode cX2_areSame 4 = .ok (.sipush 1000, 3) := dk_17 3 232 (dk_at dksX2_areSame_0 4 rfl rfl)
theorem dX2_areSame_7 : decode cX2_areSame 7 = .ok (.if_icmp .ne 10, 3) := dk_160 0 10 (dk_at dksX2_areSame_0 7 rfl rfl)
theorem dX2_areSame_10 : decode cX2_areSame 10 = .ok (.aload_n 0, 1) := dk_42 (dk_at dksX2_areSame_0 10 rfl rfl)
theorem dX2_areSame_11 : decode cX2_areSame 11 = .ok (.iconst 1, 1) := dk_4 (dk_at dksX2_areSame_0 11 rfl rfl)
theorem dX2_areSame_12 : decode cX2_areSame 12 = .ok (.putfield 360, 3) := dk_181 1 104 (dk_at dksX2_areSame_0 12 rfl rfl)
theorem dX2_areSame_15 : decode cX2_areSame 15 = .ok (.iconst 0, 1) := dk_3 (dk_at dksX2_areSame_0 15 rfl rfl)
theorem dX2_areSame_16 : decode cX2_areSame 16 = .ok (.ireturn, 1) := dk_172 (dk_at dksX2_areSame_0 16 rfl rfl)
theorem dX2_areSame_17 : decode cX2_areSame 17 = .ok (.aload_n 0, 1) := dk_42 (dk_at dksX2_areSame_0 17 rfl rfl)
theorem dX2_areSame_18 : decode cX2_areSame 18 = .ok (.dup, 1) := dk_89 (dk_at dksX2_areSame_0 18 rfl rfl)
theorem dX2_areSame_19 : decode cX2_areSame 19 = .ok (.getfield 357, 3) := dk_180 1 101 (dk_at dksX2_areSame_0 19 rfl rfl)
theorem dX2_areSame_22 : decode cX2_areSame 22 = .ok (.iconst 1, 1) := dk_4 (dk_at dksX2_areSame_0 22 rfl rfl)
theorem dX2_areSame_23 : decode cX2_areSame 23 = .ok (.iadd, 1) := dk_96 (dk_at dksX2_areSame_0 23 rfl rfl)
theorem dX2_areSame_24 : decode cX2_areSame 24 = .ok (.putfield 357, 3) := dk_181 1 101 (dk_at dksX2_areSame_1 0 rfl rfl)
theorem dX2_areSame_27 : decode cX2_areSame 27 = .ok (.aload_n 1, 1) := dk_43 (dk_at dksX2_areSame_1 3 rfl rfl)
theorem dX2_areSame_28 : decode cX2_areSame 28 = .ok (.getfield 345, 3) := dk_180 1 89 (dk_at dksX2_areSame_1 4 rfl rfl)
theorem dX2_areSame_31 : decode cX2_areSame 31 = .ok (.iconst 1, 1) := dk_4 (dk_at dksX2_areSame_1 7 rfl rfl)
theorem dX2_areSame_32 : decode cX2_areSame 32 = .ok (.if_icmp .ne 20, 3) := dk_160 0 20 (dk_at dksX2_areSame_1 8 rfl rfl)
theorem dX2_areSame_35 : decode cX2_areSame 35 = .ok (.aload_n 1, 1) := dk_43 (dk_at dksX2_areSame_1 11 rfl rfl)
theorem dX2_areSame_36 : decode cX2_areSame 36 = .ok (.getfield 346, 3) := dk_180 1 90 (dk_at dksX2_areSame_1 12 rfl rfl)
theorem dX2_areSame_39 : decode cX2_areSame 39 = .ok (.aload_n 2, 1) := dk_44 (dk_at dksX2_areSame_1 15 rfl rfl)
theorem dX2_areSame_40 : decode cX2_areSame 40 = .ok (.getfield 346, 3) := dk_180 1 90 (dk_at dksX2_areSame_1 16 rfl rfl)
theorem dX2_areSame_43 : decode cX2_areSame 43 = .ok (.if_icmp .ne 7, 3) := dk_160 0 7 (dk_at dksX2_areSame_1 19 rfl rfl)
theorem dX2_areSame_46 : decode cX2_areSame 46 = .ok (.iconst 1, 1) := dk_4 (dk_at dksX2_areSame_1 22 rfl rfl)
theorem dX2_areSame_47 : decode cX2_areSame 47 = .ok (.goto 4, 3) := dk_167 0 4 (dk_at dksX2_areSame_2 0 rfl rfl)
theorem dX2_areSame_50 : decode cX2_areSame 50 = .ok (.iconst 0, 1) := dk_3 (dk_at dksX2_areSame_2 3 rfl rfl)
theorem dX2_areSame_51 : decode cX2_areSame 51 = .ok (.ireturn, 1) := dk_172 (dk_at dksX2_areSame_2 4 rfl rfl)
theorem dX2_areSame_52 : decode cX2_areSame 52 = .ok (.aload_n 1, 1) := dk_43 (dk_at dksX2_areSame_2 5 rfl rfl)
theorem dX2_areSame_53 : decode cX2_areSame 53 = .ok (.getfield 345, 3) := dk_180 1 89 (dk_at dksX2_areSame_2 6 rfl rfl)
theorem dX2_areSame_56 : decode cX2_areSame 56 = .ok (.iconst 4, 1) := dk_7 (dk_at dksX2_areSame_2 9 rfl rfl)
theorem dX2_areSame_57 : decode cX2_areSame 57 = .ok (.if_icmp .ne 35, 3) := dk_160 0 35 (dk_at dksX2_areSame_2 10 rfl rfl)
theorem dX2_areSame_60 : decode cX2_areSame 60 = .ok (.aload_n 1, 1) := dk_43 (dk_at dksX2_areSame_2 13 rfl rfl)
theorem dX2_areSame_61 : decode cX2_areSame 61 = .ok (.getfield 346, 3) := dk_180 1 90 (dk_at dksX2_areSame_2 14 rfl rfl)
theorem dX2_areSame_64 : decode cX2_areSame 64 = .ok (.aload_n 2, 1) := dk_44 (dk_at dksX2_areSame_2 17 rfl rfl)
theorem dX2_areSame_65 : decode cX2_areSame 65 = .ok (.getfield 346, 3) := dk_180 1 90 (dk_at dksX2_areSame_2 18 rfl rfl)
theorem dX2_areSame_68 : decode cX2_areSame 68 = .ok (.if_icmp .ne 22, 3) := dk_160 0 22 (dk_at dksX2_areSame_2 21 rfl rfl)
theorem dX2_areSame_71 : decode cX2_areSame 71 = .ok (.aload_n 0, 1) := dk_42 (dk_at dksX2_areSame_3 0 rfl rfl)
theorem dX2_areSame_72 : decode cX2_areSame 72 = .ok (.aload_n 1, 1) := dk_43 (dk_at dksX2_areSame_3 1 rfl rfl)
theorem dX2_areSame_73 : decode cX2_areSame 73 = .ok (.getfield 387, 3) := dk_180 1 131 (dk_at dksX2_areSame_3 2 rfl rfl)
theorem dX2_areSame_76 : decode cX2_areSame 76 = .ok (.aload_n 2, 1) := dk_44 (dk_at dksX2_areSame_3 5 rfl rfl)
theorem dX2_areSame_77 : decode cX2_areSame 77 = .ok (.getfield 387, 3) := dk_180 1 131 (dk_at dksX2_areSame_3 6 rfl rfl)
theorem dX2_areSame_80 : decode cX2_areSame 80 = .ok (.invokevirtual 390, 3) := dk_182 1 134 (dk_at dksX2_areSame_3 9 rfl rfl)
theorem dX2_areSame_83 : decode cX2_areSame 83 = .ok (.ifCond .eq 7, 3) := dk_153 0 7 (dk_at dksX2_areSame_3 12 rfl rfl)
theorem dX2_areSame_86 : decode cX2_areSame 86 = .ok (.iconst 1, 1) := dk_4 (dk_at dksX2_areSame_3 15 rfl rfl)
theorem dX2_areSame_87 : decode cX2_areSame 87 = .ok (.goto 4, 3) := dk_167 0 4 (dk_at dksX2_areSame_3 16 rfl rfl)
theorem dX2_areSame_90 : decode cX2_areSame 90 = .ok (.iconst 0, 1) := dk_3 (dk_at dksX2_areSame_3 19 rfl rfl)
theorem dX2_areSame_91 : decode cX2_areSame 91 = .ok (.ireturn, 1) := dk_172 (dk_at dksX2_areSame_3 20 rfl rfl)
theorem dX2_areSame_92 : decode cX2_areSame 92 = .ok (.iconst 1, 1) := dk_4 (dk_at dksX2_areSame_3 21 rfl rfl)
theorem dX2_areSame_93 : decode cX2_areSame 93 = .ok (.istore_n 3, 1) := dk_62 (dk_at dksX2_areSame_3 22 rfl rfl)
theorem dX2_areSame_94 : decode cX2_areSame 94 = .ok (.iconst 0, 1) := dk_3 (dk_at dksX2_areSame_3 23 rfl rfl)
theorem dX2_areSame_95 : decode cX2_areSame 95 = .ok (.istore 4, 2) := dk_54 4 (dk_at dksX2_areSame_4 0 rfl rfl)
theorem dX2_areSame_97 : decode cX2_areSame 97 = .ok (.iload 4, 2) := dk_21 4 (dk_at dksX2_areSame_4 2 rfl rfl)
theorem dX2_areSame_99 : decode cX2_areSame 99 = .ok (.bipush 10, 2) := dk_16 10 (dk_at dksX2_areSame_4 4 rfl rfl)
theorem dX2_areSame_101 : decode cX2_areSame 101 = .ok (.if_icmp .ge 50, 3) := dk_162 0 50 (dk_at dksX2_areSame_4 6 rfl rfl)
theorem dX2_areSame_104 : decode cX2_areSame 104 = .ok (.iload_n 3, 1) := dk_29 (dk_at dksX2_areSame_4 9 rfl rfl)
theorem dX2_areSame_105 : decode cX2_areSame 105 = .ok (.ifCond .eq 46, 3) := dk_153 0 46 (dk_at dksX2_areSame_4 10 rfl rfl)
theorem dX2_areSame_108 : decode cX2_areSame 108 = .ok (.aload_n 1, 1) := dk_43 (dk_at dksX2_areSame_4 13 rfl rfl)
theorem dX2_areSame_109 : decode cX2_areSame 109 = .ok (.getfield 353, 3) := dk_180 1 97 (dk_at dksX2_areSame_4 14 rfl rfl)
theorem dX2_areSame_112 : decode cX2_areSame 112 = .ok (.iload 4, 2) := dk_21 4 (dk_at dksX2_areSame_4 17 rfl rfl)
theorem dX2_areSame_114 : decode cX2_areSame 114 = .ok (.aaload, 1) := dk_50 (dk_at dksX2_areSame_4 19 rfl rfl)
theorem dX2_areSame_115 : decode cX2_areSame 115 = .ok (.ifnull 24, 3) := dk_198 0 24 (dk_at dksX2_areSame_4 20 rfl rfl)
theorem dX2_areSame_118 : decode cX2_areSame 118 = .ok (.aload_n 0, 1) := dk_42 (dk_at dksX2_areSame_4 23 rfl rfl)
theorem dX2_areSame_119 : decode cX2_areSame 119 = .ok (.aload_n 1, 1) := dk_43 (dk_at dksX2_areSame_5 0 rfl rfl)
theorem dX2_areSame_120 : decode cX2_areSame 120 = .ok (.getfield 353, 3) := dk_180 1 97 (dk_at dksX2_areSame_5 1 rfl rfl)
theorem dX2_areSame_123 : decode cX2_areSame 123 = .ok (.iload 4, 2) := dk_21 4 (dk_at dksX2_areSame_5 4 rfl rfl)
theorem dX2_areSame_125 : decode cX2_areSame 125 = .ok (.aaload, 1) := dk_50 (dk_at dksX2_areSame_5 6 rfl rfl)
theorem dX2_areSame_126 : decode cX2_areSame 126 = .ok (.aload_n 2, 1) := dk_44 (dk_at dksX2_areSame_5 7 rfl rfl)
theorem dX2_areSame_127 : decode cX2_areSame 127 = .ok (.getfield 353, 3) := dk_180 1 97 (dk_at dksX2_areSame_5 8 rfl rfl)
theorem dX2_areSame_130 : decode cX2_areSame 130 = .ok (.iload 4, 2) := dk_21 4 (dk_at dksX2_areSame_5 11 rfl rfl)
theorem dX2_areSame_132 : decode cX2_areSame 132 = .ok (.aaload, 1) := dk_50 (dk_at dksX2_areSame_5 13 rfl rfl)
theorem dX2_areSame_133 : decode cX2_areSame 133 = .ok (.invokevirtual 390, 3) := dk_182 1 134 (dk_at dksX2_areSame_5 14 rfl rfl)
theorem dX2_areSame_136 : decode cX2_areSame 136 = .ok (.ifCond .eq 7, 3) := dk_153 0 7 (dk_at dksX2_areSame_5 17 rfl rfl)
theorem dX2_areSame_139 : decode cX2_areSame 139 = .ok (.iconst 1, 1) := dk_4 (dk_at dksX2_areSame_5 20 rfl rfl)
theorem dX2_areSame_140 : decode cX2_areSame 140 = .ok (.goto 4, 3) := dk_167 0 4 (dk_at dksX2_areSame_5 21 rfl rfl)
theorem dX2_areSame_143 : decode cX2_areSame 143 = .ok (.iconst 0, 1) := dk_3 (dk_at dksX2_areSame_6 0 rfl rfl)
theorem dX2_areSame_144 : decode cX2_areSame 144 = .ok (.istore_n 3, 1) := dk_62 (dk_at dksX2_areSame_6 1 rfl rfl)
theorem dX2_areSame_145 : decode cX2_areSame 145 = .ok (.iinc 4 1, 3) := dk_132 4 1 (dk_at dksX2_areSame_6 2 rfl rfl)
theorem dX2_areSame_148 : decode cX2_areSame 148 = .ok (.goto (-51), 3) := dk_167 255 205 (dk_at dksX2_areSame_6 5 rfl rfl)
theorem dX2_areSame_151 : decode cX2_areSame 151 = .ok (.iload_n 3, 1) := dk_29 (dk_at dksX2_areSame_6 8 rfl rfl)
theorem dX2_areSame_152 : decode cX2_areSame 152 = .ok (.ireturn, 1) := dk_172 (dk_at dksX2_areSame_6 9 rfl rfl)
abbrev cX2_putValue : ByteArray := prog_45_method_56_code
def yX2_putValue : MethodName := ⟨RX2, "putValue", "(LRowenTongueModel$Value;Ljava/lang/StringBuilder;)V"⟩
def dkwX2_putValue_9 : List UInt8 := [184, 1, 52, 177]
abbrev dktX2_putValue_9 : List UInt8 := dkwX2_putValue_9 ++ []
def dkwX2_putValue_8 : List UInt8 := [184, 1, 52, 42, 180, 1, 97, 29, 50, 43, 184, 1, 144, 132, 3, 1, 167, 255, 201, 43, 16, 125]
abbrev dktX2_putValue_8 : List UInt8 := dkwX2_putValue_8 ++ dktX2_putValue_9
def dkwX2_putValue_7 : List UInt8 := [153, 0, 9, 43, 16, 44, 184, 1, 52, 4, 61, 43, 16, 48, 29, 96, 146, 184, 1, 52, 43, 16, 58]
abbrev dktX2_putValue_7 : List UInt8 := dkwX2_putValue_7 ++ dktX2_putValue_8
def dkwX2_putValue_6 : List UInt8 := [184, 1, 52, 3, 61, 3, 62, 29, 16, 10, 162, 0, 55, 42, 180, 1, 97, 29, 50, 198, 0, 40, 28]
abbrev dktX2_putValue_6 : List UInt8 := dkwX2_putValue_6 ++ dktX2_putValue_7
def dkwX2_putValue_5 : List UInt8 := [184, 1, 52, 42, 180, 1, 131, 43, 184, 1, 144, 43, 16, 93, 184, 1, 52, 167, 0, 77, 43, 16, 123]
abbrev dktX2_putValue_5 : List UInt8 := dkwX2_putValue_5 ++ dktX2_putValue_6
def dkwX2_putValue_4 : List UInt8 := [160, 0, 44, 43, 16, 91, 184, 1, 52, 43, 16, 48, 42, 180, 1, 90, 96, 146, 184, 1, 52, 43, 16, 58]
abbrev dktX2_putValue_4 : List UInt8 := dkwX2_putValue_4 ++ dktX2_putValue_5
def dkwX2_putValue_3 : List UInt8 := [42, 180, 1, 89, 5, 160, 0, 12, 43, 16, 70, 184, 1, 52, 167, 0, 126, 42, 180, 1, 89, 7]
abbrev dktX2_putValue_3 : List UInt8 := dkwX2_putValue_3 ++ dktX2_putValue_4
def dkwX2_putValue_2 : List UInt8 := [182, 1, 77, 162, 0, 18, 43, 44, 29, 182, 1, 80, 184, 1, 52, 132, 3, 1, 167, 255, 236, 167, 0, 143]
abbrev dktX2_putValue_2 : List UInt8 := dkwX2_putValue_2 ++ dktX2_putValue_3
def dkwX2_putValue_1 : List UInt8 := [183, 1, 64, 18, 32, 182, 1, 138, 42, 180, 1, 90, 182, 1, 141, 182, 1, 65, 77, 3, 62, 29, 44]
abbrev dktX2_putValue_1 : List UInt8 := dkwX2_putValue_1 ++ dktX2_putValue_2
def dkwX2_putValue_0 : List UInt8 := [43, 182, 1, 39, 17, 1, 44, 161, 0, 4, 177, 42, 180, 1, 89, 4, 160, 0, 54, 187, 1, 40, 89]
abbrev dktX2_putValue_0 : List UInt8 := dkwX2_putValue_0 ++ dktX2_putValue_1
theorem dksX2_putValue_0 : cX2_putValue.data.toList.drop 0 = dktX2_putValue_0 := by decide +kernel
theorem dksX2_putValue_1 : cX2_putValue.data.toList.drop 23 = dktX2_putValue_1 := dk_seg dksX2_putValue_0 23 rfl rfl
theorem dksX2_putValue_2 : cX2_putValue.data.toList.drop 46 = dktX2_putValue_2 := dk_seg dksX2_putValue_1 23 rfl rfl
theorem dksX2_putValue_3 : cX2_putValue.data.toList.drop 70 = dktX2_putValue_3 := dk_seg dksX2_putValue_2 24 rfl rfl
theorem dksX2_putValue_4 : cX2_putValue.data.toList.drop 92 = dktX2_putValue_4 := dk_seg dksX2_putValue_3 22 rfl rfl
theorem dksX2_putValue_5 : cX2_putValue.data.toList.drop 116 = dktX2_putValue_5 := dk_seg dksX2_putValue_4 24 rfl rfl
theorem dksX2_putValue_6 : cX2_putValue.data.toList.drop 139 = dktX2_putValue_6 := dk_seg dksX2_putValue_5 23 rfl rfl
theorem dksX2_putValue_7 : cX2_putValue.data.toList.drop 162 = dktX2_putValue_7 := dk_seg dksX2_putValue_6 23 rfl rfl
theorem dksX2_putValue_8 : cX2_putValue.data.toList.drop 185 = dktX2_putValue_8 := dk_seg dksX2_putValue_7 23 rfl rfl
theorem dksX2_putValue_9 : cX2_putValue.data.toList.drop 207 = dktX2_putValue_9 := dk_seg dksX2_putValue_8 22 rfl rfl
theorem dX2_putValue_0 : decode cX2_putValue 0 = .ok (.aload_n 1, 1) := dk_43 (dk_at dksX2_putValue_0 0 rfl rfl)
theorem dX2_putValue_1 : decode cX2_putValue 1 = .ok (.invokevirtual 295, 3) := dk_182 1 39 (dk_at dksX2_putValue_0 1 rfl rfl)
theorem dX2_putValue_4 : decode cX2_putValue 4 = .ok (.sipush 300, 3) := dk_17 1 44 (dk_at dksX2_putValue_0 4 rfl rfl)
theorem dX2_putValue_7 : decode cX2_putValue 7 = .ok (.if_icmp .lt 4, 3) := dk_161 0 4 (dk_at dksX2_putValue_0 7 rfl rfl)
theorem dX2_putValue_10 : decode cX2_putValue 10 = .ok (.return_, 1) := dk_177 (dk_at dksX2_putValue_0 10 rfl rfl)
theorem dX2_putValue_11 : decode cX2_putValue 11 = .ok (.aload_n 0, 1) := dk_42 (dk_at dksX2_putValue_0 11 rfl rfl)
theorem dX2_putValue_12 : decode cX2_putValue 12 = .ok (.getfield 345, 3) := dk_180 1 89 (dk_at dksX2_putValue_0 12 rfl rfl)
theorem dX2_putValue_15 : decode cX2_putValue 15 = .ok (.iconst 1, 1) := dk_4 (dk_at dksX2_putValue_0 15 rfl rfl)
theorem dX2_putValue_16 : decode cX2_putValue 16 = .ok (.if_icmp .ne 54, 3) := dk_160 0 54 (dk_at dksX2_putValue_0 16 rfl rfl)
theorem dX2_putValue_19 : decode cX2_putValue 19 = .ok (.new 296, 3) := dk_187 1 40 (dk_at dksX2_putValue_0 19 rfl rfl)
theorem dX2_putValue_22 : decode cX2_putValue 22 = .ok (.dup, 1) := dk_89 (dk_at dksX2_putValue_0 22 rfl rfl)
theorem dX2_putValue_23 : decode cX2_putValue 23 = .ok (.invokespecial 320, 3) := dk_183 1 64 (dk_at dksX2_putValue_1 0 rfl rfl)
theorem dX2_putValue_26 : decode cX2_putValue 26 = .ok (.ldc 32, 2) := dk_18 32 (dk_at dksX2_putValue_1 3 rfl rfl)
theorem dX2_putValue_28 : decode cX2_putValue 28 = .ok (.invokevirtual 394, 3) := dk_182 1 138 (dk_at dksX2_putValue_1 5 rfl rfl)
theorem dX2_putValue_31 : decode cX2_putValue 31 = .ok (.aload_n 0, 1) := dk_42 (dk_at dksX2_putValue_1 8 rfl rfl)
theorem dX2_putValue_32 : decode cX2_putValue 32 = .ok (.getfield 346, 3) := dk_180 1 90 (dk_at dksX2_putValue_1 9 rfl rfl)
theorem dX2_putValue_35 : decode cX2_putValue 35 = .ok (.invokevirtual 397, 3) := dk_182 1 141 (dk_at dksX2_putValue_1 12 rfl rfl)
theorem dX2_putValue_38 : decode cX2_putValue 38 = .ok (.invokevirtual 321, 3) := dk_182 1 65 (dk_at dksX2_putValue_1 15 rfl rfl)
theorem dX2_putValue_41 : decode cX2_putValue 41 = .ok (.astore_n 2, 1) := dk_77 (dk_at dksX2_putValue_1 18 rfl rfl)
theorem dX2_putValue_42 : decode cX2_putValue 42 = .ok (.iconst 0, 1) := dk_3 (dk_at dksX2_putValue_1 19 rfl rfl)
theorem dX2_putValue_43 : decode cX2_putValue 43 = .ok (.istore_n 3, 1) := dk_62 (dk_at dksX2_putValue_1 20 rfl rfl)
theorem dX2_putValue_44 : decode cX2_putValue 44 = .ok (.iload_n 3, 1) := dk_29 (dk_at dksX2_putValue_1 21 rfl rfl)
theorem dX2_putValue_45 : decode cX2_putValue 45 = .ok (.aload_n 2, 1) := dk_44 (dk_at dksX2_putValue_1 22 rfl rfl)
theorem dX2_putValue_46 : decode cX2_putValue 46 = .ok (.invokevirtual 333, 3) := dk_182 1 77 (dk_at dksX2_putValue_2 0 rfl rfl)
theorem dX2_putValue_49 : decode cX2_putValue 49 = .ok (.if_icmp .ge 18, 3) := dk_162 0 18 (dk_at dksX2_putValue_2 3 rfl rfl)
theorem dX2_putValue_52 : decode cX2_putValue 52 = .ok (.aload_n 1, 1) := dk_43 (dk_at dksX2_putValue_2 6 rfl rfl)
theorem dX2_putValue_53 : decode cX2_putValue 53 = .ok (.aload_n 2, 1) := dk_44 (dk_at dksX2_putValue_2 7 rfl rfl)
theorem dX2_putValue_54 : decode cX2_putValue 54 = .ok (.iload_n 3, 1) := dk_29 (dk_at dksX2_putValue_2 8 rfl rfl)
theorem dX2_putValue_55 : decode cX2_putValue 55 = .ok (.invokevirtual 336, 3) := dk_182 1 80 (dk_at dksX2_putValue_2 9 rfl rfl)
theorem dX2_putValue_58 : decode cX2_putValue 58 = .ok (.invokestatic 308, 3) := dk_184 1 52 (dk_at dksX2_putValue_2 12 rfl rfl)
theorem dX2_putValue_61 : decode cX2_putValue 61 = .ok (.iinc 3 1, 3) := dk_132 3 1 (dk_at dksX2_putValue_2 15 rfl rfl)
theorem dX2_putValue_64 : decode cX2_putValue 64 = .ok (.goto (-20), 3) := dk_167 255 236 (dk_at dksX2_putValue_2 18 rfl rfl)
theorem dX2_putValue_67 : decode cX2_putValue 67 = .ok (.goto 143, 3) := dk_167 0 143 (dk_at dksX2_putValue_2 21 rfl rfl)
theorem dX2_putValue_70 : decode cX2_putValue 70 = .ok (.aload_n 0, 1) := dk_42 (dk_at dksX2_putValue_3 0 rfl rfl)
theorem dX2_putValue_71 : decode cX2_putValue 71 = .ok (.getfield 345, 3) := dk_180 1 89 (dk_at dksX2_putValue_3 1 rfl rfl)
theorem dX2_putValue_74 : decode cX2_putValue 74 = .ok (.iconst 2, 1) := dk_5 (dk_at dksX2_putValue_3 4 rfl rfl)
theorem dX2_putValue_75 : decode cX2_putValue 75 = .ok (.if_icmp .ne 12, 3) := dk_160 0 12 (dk_at dksX2_putValue_3 5 rfl rfl)
theorem dX2_putValue_78 : decode cX2_putValue 78 = .ok (.aload_n 1, 1) := dk_43 (dk_at dksX2_putValue_3 8 rfl rfl)
theorem dX2_putValue_79 : decode cX2_putValue 79 = .ok (.bipush 70, 2) := dk_16 70 (dk_at dksX2_putValue_3 9 rfl rfl)
theorem dX2_putValue_81 : decode cX2_putValue 81 = .ok (.invokestatic 308, 3) := dk_184 1 52 (dk_at dksX2_putValue_3 11 rfl rfl)
theorem dX2_putValue_84 : decode cX2_putValue 84 = .ok (.goto 126, 3) := dk_167 0 126 (dk_at dksX2_putValue_3 14 rfl rfl)
theorem dX2_putValue_87 : decode cX2_putValue 87 = .ok (.aload_n 0, 1) := dk_42 (dk_at dksX2_putValue_3 17 rfl rfl)
theorem dX2_putValue_88 : decode cX2_putValue 88 = .ok (.getfield 345, 3) := dk_180 1 89 (dk_at dksX2_putValue_3 18 rfl rfl)
theorem dX2_putValue_91 : decode cX2_putValue 91 = .ok (.iconst 4, 1) := dk_7 (dk_at dksX2_putValue_3 21 rfl rfl)
theorem dX2_putValue_92 : decode cX2_putValue 92 = .ok (.if_icmp .ne 44, 3) := dk_160 0 44 (dk_at dksX2_putValue_4 0 rfl rfl)
theorem dX2_putValue_95 : decode cX2_putValue 95 = .ok (.aload_n 1, 1) := dk_43 (dk_at dksX2_putValue_4 3 rfl rfl)
theorem dX2_putValue_96 : decode cX2_putValue 96 = .ok (.bipush 91, 2) := dk_16 91 (dk_at dksX2_putValue_4 4 rfl rfl)
theorem dX2_putValue_98 : decode cX2_putValue 98 = .ok (.invokestatic 308, 3) := dk_184 1 52 (dk_at dksX2_putValue_4 6 rfl rfl)
theorem dX2_putValue_101 : decode cX2_putValue 101 = .ok (.aload_n 1, 1) := dk_43 (dk_at dksX2_putValue_4 9 rfl rfl)
theorem dX2_putValue_102 : decode cX2_putValue 102 = .ok (.bipush 48, 2) := dk_16 48 (dk_at dksX2_putValue_4 10 rfl rfl)
theorem dX2_putValue_104 : decode cX2_putValue 104 = .ok (.aload_n 0, 1) := dk_42 (dk_at dksX2_putValue_4 12 rfl rfl)
theorem dX2_putValue_105 : decode cX2_putValue 105 = .ok (.getfield 346, 3) := dk_180 1 90 (dk_at dksX2_putValue_4 13 rfl rfl)
theorem dX2_putValue_108 : decode cX2_putValue 108 = .ok (.iadd, 1) := dk_96 (dk_at dksX2_putValue_4 16 rfl rfl)
theorem dX2_putValue_109 : decode cX2_putValue 109 = .ok (.i2c, 1) := dk_146 (dk_at dksX2_putValue_4 17 rfl rfl)
theorem dX2_putValue_110 : decode cX2_putValue 110 = .ok (.invokestatic 308, 3) := dk_184 1 52 (dk_at dksX2_putValue_4 18 rfl rfl)
theorem dX2_putValue_113 : decode cX2_putValue 113 = .ok (.aload_n 1, 1) := dk_43 (dk_at dksX2_putValue_4 21 rfl rfl)
theorem dX2_putValue_114 : decode cX2_putValue 114 = .ok (.bipush 58, 2) := dk_16 58 (dk_at dksX2_putValue_4 22 rfl rfl)
theorem dX2_putValue_116 : decode cX2_putValue 116 = .ok (.invokestatic 308, 3) := dk_184 1 52 (dk_at dksX2_putValue_5 0 rfl rfl)
theorem dX2_putValue_119 : decode cX2_putValue 119 = .ok (.aload_n 0, 1) := dk_42 (dk_at dksX2_putValue_5 3 rfl rfl)
theorem dX2_putValue_120 : decode cX2_putValue 120 = .ok (.getfield 387, 3) := dk_180 1 131 (dk_at dksX2_putValue_5 4 rfl rfl)
theorem dX2_putValue_123 : decode cX2_putValue 123 = .ok (.aload_n 1, 1) := dk_43 (dk_at dksX2_putValue_5 7 rfl rfl)
theorem dX2_putValue_124 : decode cX2_putValue 124 = .ok (.invokestatic 400, 3) := dk_184 1 144 (dk_at dksX2_putValue_5 8 rfl rfl)
theorem dX2_putValue_127 : decode cX2_putValue 127 = .ok (.aload_n 1, 1) := dk_43 (dk_at dksX2_putValue_5 11 rfl rfl)
theorem dX2_putValue_128 : decode cX2_putValue 128 = .ok (.bipush 93, 2) := dk_16 93 (dk_at dksX2_putValue_5 12 rfl rfl)
theorem dX2_putValue_130 : decode cX2_putValue 130 = .ok (.invokestatic 308, 3) := dk_184 1 52 (dk_at dksX2_putValue_5 14 rfl rfl)
theorem dX2_putValue_133 : decode cX2_putValue 133 = .ok (.goto 77, 3) := dk_167 0 77 (dk_at dksX2_putValue_5 17 rfl rfl)
theorem dX2_putValue_136 : decode cX2_putValue 136 = .ok (.aload_n 1, 1) := dk_43 (dk_at dksX2_putValue_5 20 rfl rfl)
theorem dX2_putValue_137 : decode cX2_putValue 137 = .ok (.bipush 123, 2) := dk_16 123 (dk_at dksX2_putValue_5 21 rfl rfl)
theorem dX2_putValue_139 : decode cX2_putValue 139 = .ok (.invokestatic 308, 3) := dk_184 1 52 (dk_at dksX2_putValue_6 0 rfl rfl)
theorem dX2_putValue_142 : decode cX2_putValue 142 = .ok (.iconst 0, 1) := dk_3 (dk_at dksX2_putValue_6 3 rfl rfl)
theorem dX2_putValue_143 : decode cX2_putValue 143 = .ok (.istore_n 2, 1) := dk_61 (dk_at dksX2_putValue_6 4 rfl rfl)
theorem dX2_putValue_144 : decode cX2_putValue 144 = .ok (.iconst 0, 1) := dk_3 (dk_at dksX2_putValue_6 5 rfl rfl)
theorem dX2_putValue_145 : decode cX2_putValue 145 = .ok (.istore_n 3, 1) := dk_62 (dk_at dksX2_putValue_6 6 rfl rfl)
theorem dX2_putValue_146 : decode cX2_putValue 146 = .ok (.iload_n 3, 1) := dk_29 (dk_at dksX2_putValue_6 7 rfl rfl)
theorem dX2_putValue_147 : decode cX2_putValue 147 = .ok (.bipush 10, 2) := dk_16 10 (dk_at dksX2_putValue_6 8 rfl rfl)
theorem dX2_putValue_149 : decode cX2_putValue 149 = .ok (.if_icmp .ge 55, 3) := dk_162 0 55 (dk_at dksX2_putValue_6 10 rfl rfl)
theorem dX2_putValue_152 : decode cX2_putValue 152 = .ok (.aload_n 0, 1) := dk_42 (dk_at dksX2_putValue_6 13 rfl rfl)
theorem dX2_putValue_153 : decode cX2_putValue 153 = .ok (.getfield 353, 3) := dk_180 1 97 (dk_at dksX2_putValue_6 14 rfl rfl)
theorem dX2_putValue_156 : decode cX2_putValue 156 = .ok (.iload_n 3, 1) := dk_29 (dk_at dksX2_putValue_6 17 rfl rfl)
theorem dX2_putValue_157 : decode cX2_putValue 157 = .ok (.aaload, 1) := dk_50 (dk_at dksX2_putValue_6 18 rfl rfl)
theorem dX2_putValue_158 : decode cX2_putValue 158 = .ok (.ifnull 40, 3) := dk_198 0 40 (dk_at dksX2_putValue_6 19 rfl rfl)
theorem dX2_putValue_161 : decode cX2_putValue 161 = .ok (.iload_n 2, 1) := dk_28 (dk_at dksX2_putValue_6 22 rfl rfl)
theorem dX2_putValue_162 : decode cX2_putValue 162 = .ok (.ifCond .eq 9, 3) := dk_153 0 9 (dk_at dksX2_putValue_7 0 rfl rfl)
theorem dX2_putValue_165 : decode cX2_putValue 165 = .ok (.aload_n 1, 1) := dk_43 (dk_at dksX2_putValue_7 3 rfl rfl)
theorem dX2_putValue_166 : decode cX2_putValue 166 = .ok (.bipush 44, 2) := dk_16 44 (dk_at dksX2_putValue_7 4 rfl rfl)
theorem dX2_putValue_168 : decode cX2_putValue 168 = .ok (.invokestatic 308, 3) := dk_184 1 52 (dk_at dksX2_putValue_7 6 rfl rfl)
theorem dX2_putValue_171 : decode cX2_putValue 171 = .ok (.iconst 1, 1) := dk_4 (dk_at dksX2_putValue_7 9 rfl rfl)
theorem dX2_putValue_172 : decode cX2_putValue 172 = .ok (.istore_n 2, 1) := dk_61 (dk_at dksX2_putValue_7 10 rfl rfl)
theorem dX2_putValue_173 : decode cX2_putValue 173 = .ok (.aload_n 1, 1) := dk_43 (dk_at dksX2_putValue_7 11 rfl rfl)
theorem dX2_putValue_174 : decode cX2_putValue 174 = .ok (.bipush 48, 2) := dk_16 48 (dk_at dksX2_putValue_7 12 rfl rfl)
theorem dX2_putValue_176 : decode cX2_putValue 176 = .ok (.iload_n 3, 1) := dk_29 (dk_at dksX2_putValue_7 14 rfl rfl)
theorem dX2_putValue_177 : decode cX2_putValue 177 = .ok (.iadd, 1) := dk_96 (dk_at dksX2_putValue_7 15 rfl rfl)
theorem dX2_putValue_178 : decode cX2_putValue 178 = .ok (.i2c, 1) := dk_146 (dk_at dksX2_putValue_7 16 rfl rfl)
theorem dX2_putValue_179 : decode cX2_putValue 179 = .ok (.invokestatic 308, 3) := dk_184 1 52 (dk_at dksX2_putValue_7 17 rfl rfl)
theorem dX2_putValue_182 : decode cX2_putValue 182 = .ok (.aload_n 1, 1) := dk_43 (dk_at dksX2_putValue_7 20 rfl rfl)
theorem dX2_putValue_183 : decode cX2_putValue 183 = .ok (.bipush 58, 2) := dk_16 58 (dk_at dksX2_putValue_7 21 rfl rfl)
theorem dX2_putValue_185 : decode cX2_putValue 185 = .ok (.invokestatic 308, 3) := dk_184 1 52 (dk_at dksX2_putValue_8 0 rfl rfl)
theorem dX2_putValue_188 : decode cX2_putValue 188 = .ok (.aload_n 0, 1) := dk_42 (dk_at dksX2_putValue_8 3 rfl rfl)
theorem dX2_putValue_189 : decode cX2_putValue 189 = .ok (.getfield 353, 3) := dk_180 1 97 (dk_at dksX2_putValue_8 4 rfl rfl)
theorem dX2_putValue_192 : decode cX2_putValue 192 = .ok (.iload_n 3, 1) := dk_29 (dk_at dksX2_putValue_8 7 rfl rfl)
theorem dX2_putValue_193 : decode cX2_putValue 193 = .ok (.aaload, 1) := dk_50 (dk_at dksX2_putValue_8 8 rfl rfl)
theorem dX2_putValue_194 : decode cX2_putValue 194 = .ok (.aload_n 1, 1) := dk_43 (dk_at dksX2_putValue_8 9 rfl rfl)
theorem dX2_putValue_195 : decode cX2_putValue 195 = .ok (.invokestatic 400, 3) := dk_184 1 144 (dk_at dksX2_putValue_8 10 rfl rfl)
theorem dX2_putValue_198 : decode cX2_putValue 198 = .ok (.iinc 3 1, 3) := dk_132 3 1 (dk_at dksX2_putValue_8 13 rfl rfl)
theorem dX2_putValue_201 : decode cX2_putValue 201 = .ok (.goto (-55), 3) := dk_167 255 201 (dk_at dksX2_putValue_8 16 rfl rfl)
theorem dX2_putValue_204 : decode cX2_putValue 204 = .ok (.aload_n 1, 1) := dk_43 (dk_at dksX2_putValue_8 19 rfl rfl)
theorem dX2_putValue_205 : decode cX2_putValue 205 = .ok (.bipush 125, 2) := dk_16 125 (dk_at dksX2_putValue_8 20 rfl rfl)
theorem dX2_putValue_207 : decode cX2_putValue 207 = .ok (.invokestatic 308, 3) := dk_184 1 52 (dk_at dksX2_putValue_9 0 rfl rfl)
theorem dX2_putValue_210 : decode cX2_putValue 210 = .ok (.return_, 1) := dk_177 (dk_at dksX2_putValue_9 3 rfl rfl)
abbrev cX2_steps : ByteArray := prog_45_method_58_code
def yX2_steps : MethodName := ⟨RX2, "steps", "()I"⟩
def dkwX2_steps_0 : List UInt8 := [42, 3, 181, 0, 41, 42, 180, 1, 148, 172]
abbrev dktX2_steps_0 : List UInt8 := dkwX2_steps_0 ++ []
theorem dksX2_steps_0 : cX2_steps.data.toList.drop 0 = dktX2_steps_0 := by decide +kernel
theorem dX2_steps_0 : decode cX2_steps 0 = .ok (.aload_n 0, 1) := dk_42 (dk_at dksX2_steps_0 0 rfl rfl)
theorem dX2_steps_1 : decode cX2_steps 1 = .ok (.iconst 0, 1) := dk_3 (dk_at dksX2_steps_0 1 rfl rfl)
theorem dX2_steps_2 : decode cX2_steps 2 = .ok (.putfield 41, 3) := dk_181 0 41 (dk_at dksX2_steps_0 2 rfl rfl)
theorem dX2_steps_5 : decode cX2_steps 5 = .ok (.aload_n 0, 1) := dk_42 (dk_at dksX2_steps_0 5 rfl rfl)
theorem dX2_steps_6 : decode cX2_steps 6 = .ok (.getfield 404, 3) := dk_180 1 148 (dk_at dksX2_steps_0 6 rfl rfl)
theorem dX2_steps_9 : decode cX2_steps 9 = .ok (.ireturn, 1) := dk_172 (dk_at dksX2_steps_0 9 rfl rfl)
abbrev cX2_result : ByteArray := prog_45_method_59_code
def yX2_result : MethodName := ⟨RX2, "result", "(I)C"⟩
def dkwX2_result_1 : List UInt8 := [182, 1, 77, 162, 0, 14, 42, 180, 0, 34, 27, 182, 1, 80, 167, 0, 5, 16, 32, 172]
abbrev dktX2_result_1 : List UInt8 := dkwX2_result_1 ++ []
def dkwX2_result_0 : List UInt8 := [42, 27, 155, 0, 7, 4, 167, 0, 4, 3, 4, 4, 182, 0, 59, 153, 0, 25, 27, 42, 180, 0, 34]
abbrev dktX2_result_0 : List UInt8 := dkwX2_result_0 ++ dktX2_result_1
theorem dksX2_result_0 : cX2_result.data.toList.drop 0 = dktX2_result_0 := by decide +kernel
theorem dksX2_result_1 : cX2_result.data.toList.drop 23 = dktX2_result_1 := dk_seg dksX2_result_0 23 rfl rfl
theorem dX2_result_0 : decode cX2_result 0 = .ok (.aload_n 0, 1) := dk_42 (dk_at dksX2_result_0 0 rfl rfl)
theorem dX2_result_1 : decode cX2_result 1 = .ok (.iload_n 1, 1) := dk_27 (dk_at dksX2_result_0 1 rfl rfl)
theorem dX2_result_2 : decode cX2_result 2 = .ok (.ifCond .lt 7, 3) := dk_155 0 7 (dk_at dksX2_result_0 2 rfl rfl)
theorem dX2_result_5 : decode cX2_result 5 = .ok (.iconst 1, 1) := dk_4 (dk_at dksX2_result_0 5 rfl rfl)
theorem dX2_result_6 : decode cX2_result 6 = .ok (.goto 4, 3) := dk_167 0 4 (dk_at dksX2_result_0 6 rfl rfl)
theorem dX2_result_9 : decode cX2_result 9 = .ok (.iconst 0, 1) := dk_3 (dk_at dksX2_result_0 9 rfl rfl)
theorem dX2_result_10 : decode cX2_result 10 = .ok (.iconst 1, 1) := dk_4 (dk_at dksX2_result_0 10 rfl rfl)
theorem dX2_result_11 : decode cX2_result 11 = .ok (.iconst 1, 1) := dk_4 (dk_at dksX2_result_0 11 rfl rfl)
theorem dX2_result_12 : decode cX2_result 12 = .ok (.invokevirtual 59, 3) := dk_182 0 59 (dk_at dksX2_result_0 12 rfl rfl)
theorem dX2_result_15 : decode cX2_result 15 = .ok (.ifCond .eq 25, 3) := dk_153 0 25 (dk_at dksX2_result_0 15 rfl rfl)
theorem dX2_result_18 : decode cX2_result 18 = .ok (.iload_n 1, 1) := dk_27 (dk_at dksX2_result_0 18 rfl rfl)
theorem dX2_result_19 : decode cX2_result 19 = .ok (.aload_n 0, 1) := dk_42 (dk_at dksX2_result_0 19 rfl rfl)
theorem dX2_result_20 : decode cX2_result 20 = .ok (.getfield 34, 3) := dk_180 0 34 (dk_at dksX2_result_0 20 rfl rfl)
theorem dX2_result_23 : decode cX2_result 23 = .ok (.invokevirtual 333, 3) := dk_182 1 77 (dk_at dksX2_result_1 0 rfl rfl)
theorem dX2_result_26 : decode cX2_result 26 = .ok (.if_icmp .ge 14, 3) := dk_162 0 14 (dk_at dksX2_result_1 3 rfl rfl)
theorem dX2_result_29 : decode cX2_result 29 = .ok (.aload_n 0, 1) := dk_42 (dk_at dksX2_result_1 6 rfl rfl)
theorem dX2_result_30 : decode cX2_result 30 = .ok (.getfield 34, 3) := dk_180 0 34 (dk_at dksX2_result_1 7 rfl rfl)
theorem dX2_result_33 : decode cX2_result 33 = .ok (.iload_n 1, 1) := dk_27 (dk_at dksX2_result_1 10 rfl rfl)
theorem dX2_result_34 : decode cX2_result 34 = .ok (.invokevirtual 336, 3) := dk_182 1 80 (dk_at dksX2_result_1 11 rfl rfl)
theorem dX2_result_37 : decode cX2_result 37 = .ok (.goto 5, 3) := dk_167 0 5 (dk_at dksX2_result_1 14 rfl rfl)
theorem dX2_result_40 : decode cX2_result 40 = .ok (.bipush 32, 2) := dk_16 32 (dk_at dksX2_result_1 17 rfl rfl)
theorem dX2_result_42 : decode cX2_result 42 = .ok (.ireturn, 1) := dk_172 (dk_at dksX2_result_1 19 rfl rfl)
abbrev cX2_agrees : ByteArray := prog_45_method_60_code
def yX2_agrees : MethodName := ⟨RX2, "agrees", "(I)Z"⟩
def dkwX2_agrees_1 : List UInt8 := [3, 4, 182, 0, 59, 172]
abbrev dktX2_agrees_1 : List UInt8 := dkwX2_agrees_1 ++ []
def dkwX2_agrees_0 : List UInt8 := [42, 27, 182, 0, 51, 61, 42, 28, 28, 153, 0, 15, 42, 27, 182, 1, 35, 198, 0, 7, 4, 167, 0, 4]
abbrev dktX2_agrees_0 : List UInt8 := dkwX2_agrees_0 ++ dktX2_agrees_1
theorem dksX2_agrees_0 : cX2_agrees.data.toList.drop 0 = dktX2_agrees_0 := by decide +kernel
theorem dksX2_agrees_1 : cX2_agrees.data.toList.drop 24 = dktX2_agrees_1 := dk_seg dksX2_agrees_0 24 rfl rfl
theorem dX2_agrees_0 : decode cX2_agrees 0 = .ok (.aload_n 0, 1) := dk_42 (dk_at dksX2_agrees_0 0 rfl rfl)
theorem dX2_agrees_1 : decode cX2_agrees 1 = .ok (.iload_n 1, 1) := dk_27 (dk_at dksX2_agrees_0 1 rfl rfl)
theorem dX2_agrees_2 : decode cX2_agrees 2 = .ok (.invokevirtual 51, 3) := dk_182 0 51 (dk_at dksX2_agrees_0 2 rfl rfl)
theorem dX2_agrees_5 : decode cX2_agrees 5 = .ok (.istore_n 2, 1) := dk_61 (dk_at dksX2_agrees_0 5 rfl rfl)
theorem dX2_agrees_6 : decode cX2_agrees 6 = .ok (.aload_n 0, 1) := dk_42 (dk_at dksX2_agrees_0 6 rfl rfl)
theorem dX2_agrees_7 : decode cX2_agrees 7 = .ok (.iload_n 2, 1) := dk_28 (dk_at dksX2_agrees_0 7 rfl rfl)
theorem dX2_agrees_8 : decode cX2_agrees 8 = .ok (.iload_n 2, 1) := dk_28 (dk_at dksX2_agrees_0 8 rfl rfl)
theorem dX2_agrees_9 : decode cX2_agrees 9 = .ok (.ifCond .eq 15, 3) := dk_153 0 15 (dk_at dksX2_agrees_0 9 rfl rfl)
theorem dX2_agrees_12 : decode cX2_agrees 12 = .ok (.aload_n 0, 1) := dk_42 (dk_at dksX2_agrees_0 12 rfl rfl)
theorem dX2_agrees_13 : decode cX2_agrees 13 = .ok (.iload_n 1, 1) := dk_27 (dk_at dksX2_agrees_0 13 rfl rfl)
theorem dX2_agrees_14 : decode cX2_agrees 14 = .ok (.invokevirtual 291, 3) := dk_182 1 35 (dk_at dksX2_agrees_0 14 rfl rfl)
theorem dX2_agrees_17 : decode cX2_agrees 17 = .ok (.ifnull 7, 3) := dk_198 0 7 (dk_at dksX2_agrees_0 17 rfl rfl)
theorem dX2_agrees_20 : decode cX2_agrees 20 = .ok (.iconst 1, 1) := dk_4 (dk_at dksX2_agrees_0 20 rfl rfl)
theorem dX2_agrees_21 : decode cX2_agrees 21 = .ok (.goto 4, 3) := dk_167 0 4 (dk_at dksX2_agrees_0 21 rfl rfl)
theorem dX2_agrees_24 : decode cX2_agrees 24 = .ok (.iconst 0, 1) := dk_3 (dk_at dksX2_agrees_1 0 rfl rfl)
theorem dX2_agrees_25 : decode cX2_agrees 25 = .ok (.iconst 1, 1) := dk_4 (dk_at dksX2_agrees_1 1 rfl rfl)
theorem dX2_agrees_26 : decode cX2_agrees 26 = .ok (.invokevirtual 59, 3) := dk_182 0 59 (dk_at dksX2_agrees_1 2 rfl rfl)
theorem dX2_agrees_29 : decode cX2_agrees 29 = .ok (.ireturn, 1) := dk_172 (dk_at dksX2_agrees_1 5 rfl rfl)
abbrev cX2_places : ByteArray := prog_45_method_61_code
def yX2_places : MethodName := ⟨RX2, "places", "(II)I"⟩
def dkwX2_places_3 : List UInt8 := [167, 0, 4, 3, 182, 0, 59, 153, 0, 12, 42, 180, 0, 38, 27, 46, 167, 0, 4, 3, 172]
abbrev dktX2_places_3 : List UInt8 := dkwX2_places_3 ++ []
def dkwX2_places_2 : List UInt8 := [167, 0, 4, 3, 54, 4, 42, 29, 21, 4, 21, 4, 153, 0, 15, 42, 28, 182, 1, 35, 198, 0, 7, 4]
abbrev dktX2_places_2 : List UInt8 := dkwX2_places_2 ++ dktX2_places_3
def dkwX2_places_1 : List UInt8 := [153, 0, 27, 42, 180, 0, 7, 27, 46, 7, 159, 0, 13, 42, 180, 0, 7, 27, 46, 8, 160, 0, 7, 4]
abbrev dktX2_places_1 : List UInt8 := dkwX2_places_1 ++ dktX2_places_2
def dkwX2_places_0 : List UInt8 := [42, 27, 182, 0, 51, 153, 0, 15, 42, 28, 182, 0, 51, 153, 0, 7, 4, 167, 0, 4, 3, 62, 29]
abbrev dktX2_places_0 : List UInt8 := dkwX2_places_0 ++ dktX2_places_1
theorem dksX2_places_0 : cX2_places.data.toList.drop 0 = dktX2_places_0 := by decide +kernel
theorem dksX2_places_1 : cX2_places.data.toList.drop 23 = dktX2_places_1 := dk_seg dksX2_places_0 23 rfl rfl
theorem dksX2_places_2 : cX2_places.data.toList.drop 47 = dktX2_places_2 := dk_seg dksX2_places_1 24 rfl rfl
theorem dksX2_places_3 : cX2_places.data.toList.drop 71 = dktX2_places_3 := dk_seg dksX2_places_2 24 rfl rfl
theorem dX2_places_0 : decode cX2_places 0 = .ok (.aload_n 0, 1) := dk_42 (dk_at dksX2_places_0 0 rfl rfl)
theorem dX2_places_1 : decode cX2_places 1 = .ok (.iload_n 1, 1) := dk_27 (dk_at dksX2_places_0 1 rfl rfl)
theorem dX2_places_2 : decode cX2_places 2 = .ok (.invokevirtual 51, 3) := dk_182 0 51 (dk_at dksX2_places_0 2 rfl rfl)
theorem dX2_places_5 : decode cX2_places 5 = .ok (.ifCond .eq 15, 3) := dk_153 0 15 (dk_at dksX2_places_0 5 rfl rfl)
theorem dX2_places_8 : decode cX2_places 8 = .ok (.aload_n 0, 1) := dk_42 (dk_at dksX2_places_0 8 rfl rfl)
theorem dX2_places_9 : decode cX2_places 9 = .ok (.iload_n 2, 1) := dk_28 (dk_at dksX2_places_0 9 rfl rfl)
theorem dX2_places_10 : decode cX2_places 10 = .ok (.invokevirtual 51, 3) := dk_182 0 51 (dk_at dksX2_places_0 10 rfl rfl)
theorem dX2_places_13 : decode cX2_places 13 = .ok (.ifCond .eq 7, 3) := dk_153 0 7 (dk_at dksX2_places_0 13 rfl rfl)
theorem dX2_places_16 : decode cX2_places 16 = .ok (.iconst 1, 1) := dk_4 (dk_at dksX2_places_0 16 rfl rfl)
theorem dX2_places_17 : decode cX2_places 17 = .ok (.goto 4, 3) := dk_167 0 4 (dk_at dksX2_places_0 17 rfl rfl)
theorem dX2_places_20 : decode cX2_places 20 = .ok (.iconst 0, 1) := dk_3 (dk_at dksX2_places_0 20 rfl rfl)
theorem dX2_places_21 : decode cX2_places 21 = .ok (.istore_n 3, 1) := dk_62 (dk_at dksX2_places_0 21 rfl rfl)
theorem dX2_places_22 : decode cX2_places 22 = .ok (.iload_n 3, 1) := dk_29 (dk_at dksX2_places_0 22 rfl rfl)
theorem dX2_places_23 : decode cX2_places 23 = .ok (.ifCond .eq 27, 3) := dk_153 0 27 (dk_at dksX2_places_1 0 rfl rfl)
theorem dX2_places_26 : decode cX2_places 26 = .ok (.aload_n 0, 1) := dk_42 (dk_at dksX2_places_1 3 rfl rfl)
theorem dX2_places_27 : decode cX2_places 27 = .ok (.getfield 7, 3) := dk_180 0 7 (dk_at dksX2_places_1 4 rfl rfl)
theorem dX2_places_30 : decode cX2_places 30 = .ok (.iload_n 1, 1) := dk_27 (dk_at dksX2_places_1 7 rfl rfl)
theorem dX2_places_31 : decode cX2_places 31 = .ok (.iaload, 1) := dk_46 (dk_at dksX2_places_1 8 rfl rfl)
theorem dX2_places_32 : decode cX2_places 32 = .ok (.iconst 4, 1) := dk_7 (dk_at dksX2_places_1 9 rfl rfl)
theorem dX2_places_33 : decode cX2_places 33 = .ok (.if_icmp .eq 13, 3) := dk_159 0 13 (dk_at dksX2_places_1 10 rfl rfl)
theorem dX2_places_36 : decode cX2_places 36 = .ok (.aload_n 0, 1) := dk_42 (dk_at dksX2_places_1 13 rfl rfl)
theorem dX2_places_37 : decode cX2_places 37 = .ok (.getfield 7, 3) := dk_180 0 7 (dk_at dksX2_places_1 14 rfl rfl)
theorem dX2_places_40 : decode cX2_places 40 = .ok (.iload_n 1, 1) := dk_27 (dk_at dksX2_places_1 17 rfl rfl)
theorem dX2_places_41 : decode cX2_places 41 = .ok (.iaload, 1) := dk_46 (dk_at dksX2_places_1 18 rfl rfl)
theorem dX2_places_42 : decode cX2_places 42 = .ok (.iconst 5, 1) := dk_8 (dk_at dksX2_places_1 19 rfl rfl)
theorem dX2_places_43 : decode cX2_places 43 = .ok (.if_icmp .ne 7, 3) := dk_160 0 7 (dk_at dksX2_places_1 20 rfl rfl)
theorem dX2_places_46 : decode cX2_places 46 = .ok (.iconst 1, 1) := dk_4 (dk_at dksX2_places_1 23 rfl rfl)
theorem dX2_places_47 : decode cX2_places 47 = .ok (.goto 4, 3) := dk_167 0 4 (dk_at dksX2_places_2 0 rfl rfl)
theorem dX2_places_50 : decode cX2_places 50 = .ok (.iconst 0, 1) := dk_3 (dk_at dksX2_places_2 3 rfl rfl)
theorem dX2_places_51 : decode cX2_places 51 = .ok (.istore 4, 2) := dk_54 4 (dk_at dksX2_places_2 4 rfl rfl)
theorem dX2_places_53 : decode cX2_places 53 = .ok (.aload_n 0, 1) := dk_42 (dk_at dksX2_places_2 6 rfl rfl)
theorem dX2_places_54 : decode cX2_places 54 = .ok (.iload_n 3, 1) := dk_29 (dk_at dksX2_places_2 7 rfl rfl)
theorem dX2_places_55 : decode cX2_places 55 = .ok (.iload 4, 2) := dk_21 4 (dk_at dksX2_places_2 8 rfl rfl)
theorem dX2_places_57 : decode cX2_places 57 = .ok (.iload 4, 2) := dk_21 4 (dk_at dksX2_places_2 10 rfl rfl)
theorem dX2_places_59 : decode cX2_places 59 = .ok (.ifCond .eq 15, 3) := dk_153 0 15 (dk_at dksX2_places_2 12 rfl rfl)
theorem dX2_places_62 : decode cX2_places 62 = .ok (.aload_n 0, 1) := dk_42 (dk_at dksX2_places_2 15 rfl rfl)
theorem dX2_places_63 : decode cX2_places 63 = .ok (.iload_n 2, 1) := dk_28 (dk_at dksX2_places_2 16 rfl rfl)
theorem dX2_places_64 : decode cX2_places 64 = .ok (.invokevirtual 291, 3) := dk_182 1 35 (dk_at dksX2_places_2 17 rfl rfl)
theorem dX2_places_67 : decode cX2_places 67 = .ok (.ifnull 7, 3) := dk_198 0 7 (dk_at dksX2_places_2 20 rfl rfl)
theorem dX2_places_70 : decode cX2_places 70 = .ok (.iconst 1, 1) := dk_4 (dk_at dksX2_places_2 23 rfl rfl)
theorem dX2_places_71 : decode cX2_places 71 = .ok (.goto 4, 3) := dk_167 0 4 (dk_at dksX2_places_3 0 rfl rfl)
theorem dX2_places_74 : decode cX2_places 74 = .ok (.iconst 0, 1) := dk_3 (dk_at dksX2_places_3 3 rfl rfl)
theorem dX2_places_75 : decode cX2_places 75 = .ok (.invokevirtual 59, 3) := dk_182 0 59 (dk_at dksX2_places_3 4 rfl rfl)
theorem dX2_places_78 : decode cX2_places 78 = .ok (.ifCond .eq 12, 3) := dk_153 0 12 (dk_at dksX2_places_3 7 rfl rfl)
theorem dX2_places_81 : decode cX2_places 81 = .ok (.aload_n 0, 1) := dk_42 (dk_at dksX2_places_3 10 rfl rfl)
theorem dX2_places_82 : decode cX2_places 82 = .ok (.getfield 38, 3) := dk_180 0 38 (dk_at dksX2_places_3 11 rfl rfl)
theorem dX2_places_85 : decode cX2_places 85 = .ok (.iload_n 1, 1) := dk_27 (dk_at dksX2_places_3 14 rfl rfl)
theorem dX2_places_86 : decode cX2_places 86 = .ok (.iaload, 1) := dk_46 (dk_at dksX2_places_3 15 rfl rfl)
theorem dX2_places_87 : decode cX2_places 87 = .ok (.goto 4, 3) := dk_167 0 4 (dk_at dksX2_places_3 16 rfl rfl)
theorem dX2_places_90 : decode cX2_places 90 = .ok (.iconst 0, 1) := dk_3 (dk_at dksX2_places_3 19 rfl rfl)
theorem dX2_places_91 : decode cX2_places 91 = .ok (.ireturn, 1) := dk_172 (dk_at dksX2_places_3 20 rfl rfl)
theorem q54 : (Jvm.Cond.initialized "RowenTongueModel") ∈ lw_all := lw_g (lw_at lw_m1 5 rfl) rfl
theorem q403 : (Jvm.Cond.selects "RowenTongueModel" ({ cls := "java/lang/Object", name := "getClass", desc := "()Ljava/lang/Class;" } : Jvm.MethodName) ({ cls := "java/lang/Object", name := "getClass", desc := "()Ljava/lang/Class;" } : Jvm.MethodName)) ∈ lw_all := lw_g (lw_at lw_m2 114 rfl) rfl
theorem q777 : (Jvm.Cond.selects "RowenTongueModel" ({ cls := "java/lang/Object", name := "equals", desc := "(Ljava/lang/Object;)Z" } : Jvm.MethodName) ({ cls := "java/lang/Object", name := "equals", desc := "(Ljava/lang/Object;)Z" } : Jvm.MethodName)) ∈ lw_all := lw_g (lw_at lw_m4 8 rfl) rfl
theorem q2372 : (Jvm.Cond.instantiable "RowenTongueModel" (17 : Nat)) ∈ lw_all := lw_g (lw_at lw_m10 163 rfl) rfl
theorem q2374 : (Jvm.Cond.instanceMethod ({ cls := "RowenTongueModel", name := "<init>", desc := "()V" } : Jvm.MethodName)) ∈ lw_all := lw_g (lw_at lw_m10 165 rfl) rfl
theorem q2375 : (Jvm.Cond.code ({ cls := "RowenTongueModel", name := "<init>", desc := "()V" } : Jvm.MethodName) prog_45_method_1_code (1 : Nat) (Option.none : Option Jvm.ClassFile.FieldType)) ∈ lw_all := lw_g (lw_at lw_m10 166 rfl) rfl
theorem q2376 : (Jvm.Cond.methodLink "RowenTongueModel" (1 : Nat) ({ cls := "java/lang/Object", name := "<init>", desc := "()V" } : Jvm.MethodName)) ∈ lw_all := lw_g (lw_at lw_m10 167 rfl) rfl
theorem q2377 : (Jvm.Cond.stringRef "RowenTongueModel" (32 : Nat) "") ∈ lw_tbl := lw_at lw_m10 168 rfl
theorem q2378 : (Jvm.Cond.fieldLink "RowenTongueModel" (44 : Nat) "RowenTongueModel" "terms" "I") ∈ lw_all := lw_g (lw_at lw_m10 169 rfl) rfl
theorem q2379 : (Jvm.Cond.fieldLink "RowenTongueModel" (7 : Nat) "RowenTongueModel" "kind" "[I") ∈ lw_all := lw_g (lw_at lw_m10 170 rfl) rfl
theorem q2380 : (Jvm.Cond.fieldLink "RowenTongueModel" (13 : Nat) "RowenTongueModel" "which" "[I") ∈ lw_all := lw_g (lw_at lw_m10 171 rfl) rfl
theorem q2381 : (Jvm.Cond.fieldLink "RowenTongueModel" (16 : Nat) "RowenTongueModel" "first" "[I") ∈ lw_all := lw_g (lw_at lw_m10 172 rfl) rfl
theorem q2382 : (Jvm.Cond.fieldLink "RowenTongueModel" (19 : Nat) "RowenTongueModel" "second" "[I") ∈ lw_all := lw_g (lw_at lw_m10 173 rfl) rfl
theorem q2383 : (Jvm.Cond.fieldLink "RowenTongueModel" (22 : Nat) "RowenTongueModel" "third" "[I") ∈ lw_all := lw_g (lw_at lw_m10 174 rfl) rfl
theorem q2384 : (Jvm.Cond.fieldLink "RowenTongueModel" (25 : Nat) "RowenTongueModel" "weight" "[I") ∈ lw_all := lw_g (lw_at lw_m10 175 rfl) rfl
theorem q2385 : (Jvm.Cond.fieldLink "RowenTongueModel" (28 : Nat) "RowenTongueModel" "errorAt" "I") ∈ lw_all := lw_g (lw_at lw_m10 176 rfl) rfl
theorem q2386 : (Jvm.Cond.fieldLink "RowenTongueModel" (404 : Nat) "RowenTongueModel" "steps" "I") ∈ lw_all := lw_g (lw_at lw_m10 177 rfl) rfl
theorem q2387 : (Jvm.Cond.fieldLink "RowenTongueModel" (34 : Nat) "RowenTongueModel" "result" "Ljava/lang/String;") ∈ lw_all := lw_g (lw_at lw_m10 178 rfl) rfl
theorem q2388 : (Jvm.Cond.fieldLink "RowenTongueModel" (41 : Nat) "RowenTongueModel" "thrown" "I") ∈ lw_all := lw_g (lw_at lw_m10 179 rfl) rfl
theorem q2389 : (Jvm.Cond.fieldLink "RowenTongueModel" (265 : Nat) "RowenTongueModel" "asks" "I") ∈ lw_all := lw_g (lw_at lw_m10 180 rfl) rfl
theorem q2390 : (Jvm.Cond.fieldLink "RowenTongueModel" (288 : Nat) "RowenTongueModel" "wrong" "I") ∈ lw_all := lw_g (lw_at lw_m10 181 rfl) rfl
theorem q2391 : (Jvm.Cond.fieldLink "RowenTongueModel" (38 : Nat) "RowenTongueModel" "places" "[I") ∈ lw_all := lw_g (lw_at lw_m10 182 rfl) rfl
theorem q2392 : (Jvm.Cond.fieldLink "RowenTongueModel" (357 : Nat) "RowenTongueModel" "taken" "I") ∈ lw_all := lw_g (lw_at lw_m10 183 rfl) rfl
theorem q2393 : (Jvm.Cond.fieldLink "RowenTongueModel" (360 : Nat) "RowenTongueModel" "isFar" "Z") ∈ lw_all := lw_g (lw_at lw_m10 184 rfl) rfl
theorem q2394 : (Jvm.Cond.fieldLink "RowenTongueModel" (107 : Nat) "RowenTongueModel" "stamp" "J") ∈ lw_all := lw_g (lw_at lw_m10 185 rfl) rfl
theorem q2395 : (Jvm.Cond.lays "RowenTongueModel" "RowenTongueModel" "terms" "I") ∈ lw_all := lw_g (lw_at lw_m10 186 rfl) rfl
theorem q2396 : (Jvm.Cond.soleField "RowenTongueModel" "terms") ∈ lw_all := lw_g (lw_at lw_m10 187 rfl) rfl
theorem q2397 : (Jvm.Cond.laysFinal "RowenTongueModel" "RowenTongueModel" "kind" "[I") ∈ lw_all := lw_g (lw_at lw_m10 188 rfl) rfl
theorem q2398 : (Jvm.Cond.soleField "RowenTongueModel" "kind") ∈ lw_all := lw_g (lw_at lw_m10 189 rfl) rfl
theorem q2399 : (Jvm.Cond.laysFinal "RowenTongueModel" "RowenTongueModel" "which" "[I") ∈ lw_all := lw_g (lw_at lw_m10 190 rfl) rfl
theorem q2400 : (Jvm.Cond.soleField "RowenTongueModel" "which") ∈ lw_all := lw_g (lw_at lw_m10 191 rfl) rfl
theorem q2401 : (Jvm.Cond.laysFinal "RowenTongueModel" "RowenTongueModel" "first" "[I") ∈ lw_all := lw_g (lw_at lw_m10 192 rfl) rfl
theorem q2402 : (Jvm.Cond.soleField "RowenTongueModel" "first") ∈ lw_all := lw_g (lw_at lw_m10 193 rfl) rfl
theorem q2403 : (Jvm.Cond.laysFinal "RowenTongueModel" "RowenTongueModel" "second" "[I") ∈ lw_all := lw_g (lw_at lw_m10 194 rfl) rfl
theorem q2404 : (Jvm.Cond.soleField "RowenTongueModel" "second") ∈ lw_all := lw_g (lw_at lw_m10 195 rfl) rfl
theorem q2405 : (Jvm.Cond.laysFinal "RowenTongueModel" "RowenTongueModel" "third" "[I") ∈ lw_all := lw_g (lw_at lw_m10 196 rfl) rfl
theorem q2406 : (Jvm.Cond.soleField "RowenTongueModel" "third") ∈ lw_all := lw_g (lw_at lw_m10 197 rfl) rfl
theorem q2407 : (Jvm.Cond.laysFinal "RowenTongueModel" "RowenTongueModel" "weight" "[I") ∈ lw_all := lw_g (lw_at lw_m10 198 rfl) rfl
theorem q2408 : (Jvm.Cond.soleField "RowenTongueModel" "weight") ∈ lw_all := lw_g (lw_at lw_m10 199 rfl) rfl
theorem q2409 : (Jvm.Cond.lays "RowenTongueModel" "RowenTongueModel" "errorAt" "I") ∈ lw_all := lw_g (lw_at lw_m10 200 rfl) rfl
theorem q2410 : (Jvm.Cond.soleField "RowenTongueModel" "errorAt") ∈ lw_all := lw_g (lw_at lw_m10 201 rfl) rfl
theorem q2411 : (Jvm.Cond.lays "RowenTongueModel" "RowenTongueModel" "steps" "I") ∈ lw_all := lw_g (lw_at lw_m10 202 rfl) rfl
theorem q2412 : (Jvm.Cond.soleField "RowenTongueModel" "steps") ∈ lw_all := lw_g (lw_at lw_m10 203 rfl) rfl
theorem q2413 : (Jvm.Cond.lays "RowenTongueModel" "RowenTongueModel" "result" "Ljava/lang/String;") ∈ lw_all := lw_g (lw_at lw_m10 204 rfl) rfl
theorem q2414 : (Jvm.Cond.soleField "RowenTongueModel" "result") ∈ lw_all := lw_g (lw_at lw_m10 205 rfl) rfl
theorem q2415 : (Jvm.Cond.lays "RowenTongueModel" "RowenTongueModel" "thrown" "I") ∈ lw_all := lw_g (lw_at lw_m10 206 rfl) rfl
theorem q2416 : (Jvm.Cond.soleField "RowenTongueModel" "thrown") ∈ lw_all := lw_g (lw_at lw_m10 207 rfl) rfl
theorem q2417 : (Jvm.Cond.lays "RowenTongueModel" "RowenTongueModel" "asks" "I") ∈ lw_all := lw_g (lw_at lw_m10 208 rfl) rfl
theorem q2418 : (Jvm.Cond.soleField "RowenTongueModel" "asks") ∈ lw_all := lw_g (lw_at lw_m10 209 rfl) rfl
theorem q2419 : (Jvm.Cond.lays "RowenTongueModel" "RowenTongueModel" "wrong" "I") ∈ lw_all := lw_g (lw_at lw_m10 210 rfl) rfl
theorem q2420 : (Jvm.Cond.soleField "RowenTongueModel" "wrong") ∈ lw_all := lw_g (lw_at lw_m10 211 rfl) rfl
theorem q2421 : (Jvm.Cond.laysFinal "RowenTongueModel" "RowenTongueModel" "places" "[I") ∈ lw_all := lw_g (lw_at lw_m10 212 rfl) rfl
theorem q2422 : (Jvm.Cond.soleField "RowenTongueModel" "places") ∈ lw_all := lw_g (lw_at lw_m10 213 rfl) rfl
theorem q2423 : (Jvm.Cond.lays "RowenTongueModel" "RowenTongueModel" "taken" "I") ∈ lw_all := lw_g (lw_at lw_m10 214 rfl) rfl
theorem q2424 : (Jvm.Cond.soleField "RowenTongueModel" "taken") ∈ lw_all := lw_g (lw_at lw_m10 215 rfl) rfl
theorem q2425 : (Jvm.Cond.lays "RowenTongueModel" "RowenTongueModel" "isFar" "Z") ∈ lw_all := lw_g (lw_at lw_m10 216 rfl) rfl
theorem q2426 : (Jvm.Cond.soleField "RowenTongueModel" "isFar") ∈ lw_all := lw_g (lw_at lw_m10 217 rfl) rfl
theorem q2427 : (Jvm.Cond.lays "RowenTongueModel" "RowenTongueModel" "stamp" "J") ∈ lw_all := lw_g (lw_at lw_m10 218 rfl) rfl
theorem q2428 : (Jvm.Cond.soleField "RowenTongueModel" "stamp") ∈ lw_all := lw_g (lw_at lw_m10 219 rfl) rfl
theorem q2429 : (Jvm.Cond.superclass "RowenTongueModel" "java/lang/Object") ∈ lw_all := lw_g (lw_at lw_m10 220 rfl) rfl
theorem q2431 : (Jvm.Cond.instanceMethod ({ cls := "RowenTongueModel", name := "thrown", desc := "()I" } : Jvm.MethodName)) ∈ lw_all := lw_g (lw_at lw_m10 222 rfl) rfl
theorem q2432 : (Jvm.Cond.selects "RowenTongueModel" ({ cls := "RowenTongueModel", name := "thrown", desc := "()I" } : Jvm.MethodName) ({ cls := "RowenTongueModel", name := "thrown", desc := "()I" } : Jvm.MethodName)) ∈ lw_all := lw_g (lw_at lw_m10 223 rfl) rfl
theorem q2433 : (Jvm.Cond.code ({ cls := "RowenTongueModel", name := "thrown", desc := "()I" } : Jvm.MethodName) prog_45_method_2_code (1 : Nat) (Option.some Jvm.ClassFile.FieldType.int)) ∈ lw_all := lw_g (lw_at lw_m10 224 rfl) rfl
theorem q2435 : (Jvm.Cond.instanceMethod ({ cls := "RowenTongueModel", name := "leaf", desc := "(II)I" } : Jvm.MethodName)) ∈ lw_all := lw_g (lw_at lw_m10 226 rfl) rfl
theorem q2436 : (Jvm.Cond.selects "RowenTongueModel" ({ cls := "RowenTongueModel", name := "leaf", desc := "(II)I" } : Jvm.MethodName) ({ cls := "RowenTongueModel", name := "leaf", desc := "(II)I" } : Jvm.MethodName)) ∈ lw_all := lw_g (lw_at lw_m10 227 rfl) rfl
theorem q2437 : (Jvm.Cond.code ({ cls := "RowenTongueModel", name := "leaf", desc := "(II)I" } : Jvm.MethodName) prog_45_method_10_code (4 : Nat) (Option.some Jvm.ClassFile.FieldType.int)) ∈ lw_all := lw_g (lw_at lw_m10 228 rfl) rfl
theorem q2438 : (Jvm.Cond.methodLink "RowenTongueModel" (47 : Nat) ({ cls := "RowenTongueModel", name := "in", desc := "(III)Z" } : Jvm.MethodName)) ∈ lw_all := lw_g (lw_at lw_m10 229 rfl) rfl
theorem q2439 : (Jvm.Cond.static ({ cls := "RowenTongueModel", name := "in", desc := "(III)Z" } : Jvm.MethodName)) ∈ lw_all := lw_g (lw_at lw_m10 230 rfl) rfl
theorem q2440 : (Jvm.Cond.code ({ cls := "RowenTongueModel", name := "in", desc := "(III)Z" } : Jvm.MethodName) prog_45_method_3_code (3 : Nat) (Option.some Jvm.ClassFile.FieldType.boolean)) ∈ lw_all := lw_g (lw_at lw_m10 231 rfl) rfl
theorem q2441 : (Jvm.Cond.methodLink "RowenTongueModel" (59 : Nat) ({ cls := "RowenTongueModel", name := "goes", desc := "(ZZZ)Z" } : Jvm.MethodName)) ∈ lw_all := lw_g (lw_at lw_m10 232 rfl) rfl
theorem q2442 : (Jvm.Cond.privateMethod ({ cls := "RowenTongueModel", name := "goes", desc := "(ZZZ)Z" } : Jvm.MethodName)) ∈ lw_tbl := lw_at lw_m10 233 rfl
theorem q2443 : (Jvm.Cond.instanceMethod ({ cls := "RowenTongueModel", name := "goes", desc := "(ZZZ)Z" } : Jvm.MethodName)) ∈ lw_all := lw_g (lw_at lw_m10 234 rfl) rfl
theorem q2444 : (Jvm.Cond.code ({ cls := "RowenTongueModel", name := "goes", desc := "(ZZZ)Z" } : Jvm.MethodName) prog_45_method_4_code (4 : Nat) (Option.some Jvm.ClassFile.FieldType.boolean)) ∈ lw_all := lw_g (lw_at lw_m10 235 rfl) rfl
theorem q2445 : (Jvm.Cond.methodLink "RowenTongueModel" (63 : Nat) ({ cls := "RowenTongueModel", name := "makes", desc := "(IIIII)I" } : Jvm.MethodName)) ∈ lw_all := lw_g (lw_at lw_m10 236 rfl) rfl
theorem q2446 : (Jvm.Cond.privateMethod ({ cls := "RowenTongueModel", name := "makes", desc := "(IIIII)I" } : Jvm.MethodName)) ∈ lw_tbl := lw_at lw_m10 237 rfl
theorem q2447 : (Jvm.Cond.instanceMethod ({ cls := "RowenTongueModel", name := "makes", desc := "(IIIII)I" } : Jvm.MethodName)) ∈ lw_all := lw_g (lw_at lw_m10 238 rfl) rfl
theorem q2448 : (Jvm.Cond.code ({ cls := "RowenTongueModel", name := "makes", desc := "(IIIII)I" } : Jvm.MethodName) prog_45_method_9_code (6 : Nat) (Option.some Jvm.ClassFile.FieldType.int)) ∈ lw_all := lw_g (lw_at lw_m10 239 rfl) rfl
theorem q2449 : (Jvm.Cond.methodLink "RowenTongueModel" (55 : Nat) ({ cls := "RowenTongueModel", name := "weightOf", desc := "(I)I" } : Jvm.MethodName)) ∈ lw_all := lw_g (lw_at lw_m11 0 rfl) rfl
theorem q2450 : (Jvm.Cond.privateMethod ({ cls := "RowenTongueModel", name := "weightOf", desc := "(I)I" } : Jvm.MethodName)) ∈ lw_tbl := lw_at lw_m11 1 rfl
theorem q2451 : (Jvm.Cond.instanceMethod ({ cls := "RowenTongueModel", name := "weightOf", desc := "(I)I" } : Jvm.MethodName)) ∈ lw_all := lw_g (lw_at lw_m11 2 rfl) rfl
theorem q2452 : (Jvm.Cond.code ({ cls := "RowenTongueModel", name := "weightOf", desc := "(I)I" } : Jvm.MethodName) prog_45_method_8_code (2 : Nat) (Option.some Jvm.ClassFile.FieldType.int)) ∈ lw_all := lw_g (lw_at lw_m11 3 rfl) rfl
theorem q2454 : (Jvm.Cond.instanceMethod ({ cls := "RowenTongueModel", name := "named", desc := "(IIII)I" } : Jvm.MethodName)) ∈ lw_all := lw_g (lw_at lw_m11 5 rfl) rfl
theorem q2455 : (Jvm.Cond.selects "RowenTongueModel" ({ cls := "RowenTongueModel", name := "named", desc := "(IIII)I" } : Jvm.MethodName) ({ cls := "RowenTongueModel", name := "named", desc := "(IIII)I" } : Jvm.MethodName)) ∈ lw_all := lw_g (lw_at lw_m11 6 rfl) rfl
theorem q2456 : (Jvm.Cond.code ({ cls := "RowenTongueModel", name := "named", desc := "(IIII)I" } : Jvm.MethodName) prog_45_method_12_code (8 : Nat) (Option.some Jvm.ClassFile.FieldType.int)) ∈ lw_all := lw_g (lw_at lw_m11 7 rfl) rfl
theorem q2457 : (Jvm.Cond.methodLink "RowenTongueModel" (67 : Nat) ({ cls := "RowenTongueModel", name := "isOfTwo", desc := "(I)Z" } : Jvm.MethodName)) ∈ lw_all := lw_g (lw_at lw_m11 8 rfl) rfl
theorem q2458 : (Jvm.Cond.static ({ cls := "RowenTongueModel", name := "isOfTwo", desc := "(I)Z" } : Jvm.MethodName)) ∈ lw_all := lw_g (lw_at lw_m11 9 rfl) rfl
theorem q2459 : (Jvm.Cond.code ({ cls := "RowenTongueModel", name := "isOfTwo", desc := "(I)Z" } : Jvm.MethodName) prog_45_method_11_code (1 : Nat) (Option.some Jvm.ClassFile.FieldType.boolean)) ∈ lw_all := lw_g (lw_at lw_m11 10 rfl) rfl
theorem q2460 : (Jvm.Cond.methodLink "RowenTongueModel" (70 : Nat) ({ cls := "RowenTongueModel", name := "isOne", desc := "(I)Z" } : Jvm.MethodName)) ∈ lw_all := lw_g (lw_at lw_m11 11 rfl) rfl
theorem q2461 : (Jvm.Cond.privateMethod ({ cls := "RowenTongueModel", name := "isOne", desc := "(I)Z" } : Jvm.MethodName)) ∈ lw_tbl := lw_at lw_m11 12 rfl
theorem q2462 : (Jvm.Cond.instanceMethod ({ cls := "RowenTongueModel", name := "isOne", desc := "(I)Z" } : Jvm.MethodName)) ∈ lw_all := lw_g (lw_at lw_m11 13 rfl) rfl
theorem q2463 : (Jvm.Cond.code ({ cls := "RowenTongueModel", name := "isOne", desc := "(I)Z" } : Jvm.MethodName) prog_45_method_6_code (2 : Nat) (Option.some Jvm.ClassFile.FieldType.boolean)) ∈ lw_all := lw_g (lw_at lw_m11 14 rfl) rfl
theorem q2464 : (Jvm.Cond.methodLink "RowenTongueModel" (51 : Nat) ({ cls := "RowenTongueModel", name := "isTerm", desc := "(I)Z" } : Jvm.MethodName)) ∈ lw_all := lw_g (lw_at lw_m11 15 rfl) rfl
theorem q2465 : (Jvm.Cond.privateMethod ({ cls := "RowenTongueModel", name := "isTerm", desc := "(I)Z" } : Jvm.MethodName)) ∈ lw_tbl := lw_at lw_m11 16 rfl
theorem q2466 : (Jvm.Cond.instanceMethod ({ cls := "RowenTongueModel", name := "isTerm", desc := "(I)Z" } : Jvm.MethodName)) ∈ lw_all := lw_g (lw_at lw_m11 17 rfl) rfl
theorem q2467 : (Jvm.Cond.code ({ cls := "RowenTongueModel", name := "isTerm", desc := "(I)Z" } : Jvm.MethodName) prog_45_method_5_code (2 : Nat) (Option.some Jvm.ClassFile.FieldType.boolean)) ∈ lw_all := lw_g (lw_at lw_m11 18 rfl) rfl
theorem q2469 : (Jvm.Cond.instanceMethod ({ cls := "RowenTongueModel", name := "made", desc := "(IIII)I" } : Jvm.MethodName)) ∈ lw_all := lw_g (lw_at lw_m11 20 rfl) rfl
theorem q2470 : (Jvm.Cond.selects "RowenTongueModel" ({ cls := "RowenTongueModel", name := "made", desc := "(IIII)I" } : Jvm.MethodName) ({ cls := "RowenTongueModel", name := "made", desc := "(IIII)I" } : Jvm.MethodName)) ∈ lw_all := lw_g (lw_at lw_m11 21 rfl) rfl
theorem q2471 : (Jvm.Cond.code ({ cls := "RowenTongueModel", name := "made", desc := "(IIII)I" } : Jvm.MethodName) prog_45_method_13_code (8 : Nat) (Option.some Jvm.ClassFile.FieldType.int)) ∈ lw_all := lw_g (lw_at lw_m11 22 rfl) rfl
theorem q2472 : (Jvm.Cond.methodLink "RowenTongueModel" (73 : Nat) ({ cls := "RowenTongueModel", name := "isCases", desc := "(I)Z" } : Jvm.MethodName)) ∈ lw_all := lw_g (lw_at lw_m11 23 rfl) rfl
theorem q2473 : (Jvm.Cond.privateMethod ({ cls := "RowenTongueModel", name := "isCases", desc := "(I)Z" } : Jvm.MethodName)) ∈ lw_tbl := lw_at lw_m11 24 rfl
theorem q2474 : (Jvm.Cond.instanceMethod ({ cls := "RowenTongueModel", name := "isCases", desc := "(I)Z" } : Jvm.MethodName)) ∈ lw_all := lw_g (lw_at lw_m11 25 rfl) rfl
theorem q2475 : (Jvm.Cond.code ({ cls := "RowenTongueModel", name := "isCases", desc := "(I)Z" } : Jvm.MethodName) prog_45_method_7_code (2 : Nat) (Option.some Jvm.ClassFile.FieldType.boolean)) ∈ lw_all := lw_g (lw_at lw_m11 26 rfl) rfl
theorem q2477 : (Jvm.Cond.instanceMethod ({ cls := "RowenTongueModel", name := "match", desc := "(IIII)I" } : Jvm.MethodName)) ∈ lw_all := lw_g (lw_at lw_m11 28 rfl) rfl
theorem q2478 : (Jvm.Cond.selects "RowenTongueModel" ({ cls := "RowenTongueModel", name := "match", desc := "(IIII)I" } : Jvm.MethodName) ({ cls := "RowenTongueModel", name := "match", desc := "(IIII)I" } : Jvm.MethodName)) ∈ lw_all := lw_g (lw_at lw_m11 29 rfl) rfl
theorem q2479 : (Jvm.Cond.code ({ cls := "RowenTongueModel", name := "match", desc := "(IIII)I" } : Jvm.MethodName) prog_45_method_14_code (7 : Nat) (Option.some Jvm.ClassFile.FieldType.int)) ∈ lw_all := lw_g (lw_at lw_m11 30 rfl) rfl
theorem q2481 : (Jvm.Cond.instanceMethod ({ cls := "RowenTongueModel", name := "terms", desc := "()I" } : Jvm.MethodName)) ∈ lw_all := lw_g (lw_at lw_m11 32 rfl) rfl
theorem q2482 : (Jvm.Cond.selects "RowenTongueModel" ({ cls := "RowenTongueModel", name := "terms", desc := "()I" } : Jvm.MethodName) ({ cls := "RowenTongueModel", name := "terms", desc := "()I" } : Jvm.MethodName)) ∈ lw_all := lw_g (lw_at lw_m11 33 rfl) rfl
theorem q2483 : (Jvm.Cond.code ({ cls := "RowenTongueModel", name := "terms", desc := "()I" } : Jvm.MethodName) prog_45_method_15_code (1 : Nat) (Option.some Jvm.ClassFile.FieldType.int)) ∈ lw_all := lw_g (lw_at lw_m11 34 rfl) rfl
theorem q2485 : (Jvm.Cond.instanceMethod ({ cls := "RowenTongueModel", name := "check", desc := "(I)I" } : Jvm.MethodName)) ∈ lw_all := lw_g (lw_at lw_m11 36 rfl) rfl
theorem q2486 : (Jvm.Cond.selects "RowenTongueModel" ({ cls := "RowenTongueModel", name := "check", desc := "(I)I" } : Jvm.MethodName) ({ cls := "RowenTongueModel", name := "check", desc := "(I)I" } : Jvm.MethodName)) ∈ lw_all := lw_g (lw_at lw_m11 37 rfl) rfl
theorem q2487 : (Jvm.Cond.code ({ cls := "RowenTongueModel", name := "check", desc := "(I)I" } : Jvm.MethodName) prog_45_method_41_code (2 : Nat) (Option.some Jvm.ClassFile.FieldType.int)) ∈ lw_all := lw_g (lw_at lw_m11 38 rfl) rfl
theorem q2488 : (Jvm.Cond.methodLink "RowenTongueModel" (291 : Nat) ({ cls := "RowenTongueModel", name := "typeOf", desc := "(I)LRowenTongueModel$Type;" } : Jvm.MethodName)) ∈ lw_all := lw_g (lw_at lw_m11 39 rfl) rfl
theorem q2489 : (Jvm.Cond.privateMethod ({ cls := "RowenTongueModel", name := "typeOf", desc := "(I)LRowenTongueModel$Type;" } : Jvm.MethodName)) ∈ lw_tbl := lw_at lw_m11 40 rfl
theorem q2490 : (Jvm.Cond.instanceMethod ({ cls := "RowenTongueModel", name := "typeOf", desc := "(I)LRowenTongueModel$Type;" } : Jvm.MethodName)) ∈ lw_all := lw_g (lw_at lw_m11 41 rfl) rfl
theorem q2491 : (Jvm.Cond.codeWith ({ cls := "RowenTongueModel", name := "typeOf", desc := "(I)LRowenTongueModel$Type;" } : Jvm.MethodName) prog_45_method_40_code (3 : Nat) (Option.some (Jvm.ClassFile.FieldType.object "RowenTongueModel$Type")) [((34 : Nat), (40 : Nat), (41 : Nat), (132 : Nat))]) ∈ lw_all := lw_g (lw_at lw_m11 42 rfl) rfl
theorem q2492 : (Jvm.Cond.classLink "RowenTongueModel" (132 : Nat) "RowenTongueModel$Wrong") ∈ lw_all := lw_g (lw_at lw_m11 43 rfl) rfl
theorem q2493 : (Jvm.Cond.methodLink "RowenTongueModel" (271 : Nat) ({ cls := "RowenTongueModel", name := "found", desc := "(ILRowenTongueModel$Known;)LRowenTongueModel$Type;" } : Jvm.MethodName)) ∈ lw_all := lw_g (lw_at lw_m11 44 rfl) rfl
theorem q2494 : (Jvm.Cond.privateMethod ({ cls := "RowenTongueModel", name := "found", desc := "(ILRowenTongueModel$Known;)LRowenTongueModel$Type;" } : Jvm.MethodName)) ∈ lw_tbl := lw_at lw_m11 45 rfl
theorem q2495 : (Jvm.Cond.instanceMethod ({ cls := "RowenTongueModel", name := "found", desc := "(ILRowenTongueModel$Known;)LRowenTongueModel$Type;" } : Jvm.MethodName)) ∈ lw_all := lw_g (lw_at lw_m11 46 rfl) rfl
theorem q2496 : (Jvm.Cond.code ({ cls := "RowenTongueModel", name := "found", desc := "(ILRowenTongueModel$Known;)LRowenTongueModel$Type;" } : Jvm.MethodName) prog_45_method_37_code (7 : Nat) (Option.some (Jvm.ClassFile.FieldType.object "RowenTongueModel$Type"))) ∈ lw_all := lw_g (lw_at lw_m11 47 rfl) rfl
theorem q2497 : (Jvm.Cond.classLink "RowenTongueModel" (76 : Nat) "RowenTongueModel$Type") ∈ lw_all := lw_g (lw_at lw_m11 48 rfl) rfl
theorem q2499 : (Jvm.Cond.methodLink "RowenTongueModel" (78 : Nat) ({ cls := "RowenTongueModel$Type", name := "<init>", desc := "(I)V" } : Jvm.MethodName)) ∈ lw_all := lw_g (lw_at lw_m11 50 rfl) rfl
theorem q2504 : (Jvm.Cond.fieldLink "RowenTongueModel" (118 : Nat) "RowenTongueModel$Type" "kind" "I") ∈ lw_all := lw_g (lw_at lw_m11 55 rfl) rfl
theorem q2506 : (Jvm.Cond.fieldLink "RowenTongueModel" (148 : Nat) "RowenTongueModel$Type" "is" "LRowenTongueModel$Type;") ∈ lw_all := lw_g (lw_at lw_m11 57 rfl) rfl
theorem q2507 : (Jvm.Cond.fieldLink "RowenTongueModel" (81 : Nat) "RowenTongueModel$Type" "from" "LRowenTongueModel$Type;") ∈ lw_all := lw_g (lw_at lw_m11 58 rfl) rfl
theorem q2508 : (Jvm.Cond.fieldLink "RowenTongueModel" (85 : Nat) "RowenTongueModel$Type" "to" "LRowenTongueModel$Type;") ∈ lw_all := lw_g (lw_at lw_m11 59 rfl) rfl
theorem q2509 : (Jvm.Cond.fieldLink "RowenTongueModel" (88 : Nat) "RowenTongueModel$Type" "row" "LRowenTongueModel$Row;") ∈ lw_all := lw_g (lw_at lw_m11 60 rfl) rfl
theorem q2510 : (Jvm.Cond.fieldLink "RowenTongueModel" (135 : Nat) "RowenTongueModel$Type" "isComparable" "Z") ∈ lw_all := lw_g (lw_at lw_m11 61 rfl) rfl
theorem q2511 : (Jvm.Cond.fieldLink "RowenTongueModel" (115 : Nat) "RowenTongueModel$Type" "seen" "J") ∈ lw_all := lw_g (lw_at lw_m11 62 rfl) rfl
theorem q2512 : (Jvm.Cond.fieldLink "RowenTongueModel" (235 : Nat) "RowenTongueModel$Type" "copy" "LRowenTongueModel$Type;") ∈ lw_all := lw_g (lw_at lw_m11 63 rfl) rfl
theorem q2538 : (Jvm.Cond.methodLink "RowenTongueModel" (134 : Nat) ({ cls := "RowenTongueModel$Wrong", name := "<init>", desc := "(I)V" } : Jvm.MethodName)) ∈ lw_all := lw_g (lw_at lw_m11 89 rfl) rfl
theorem q2551 : (Jvm.Cond.fieldLink "RowenTongueModel" (285 : Nat) "RowenTongueModel$Wrong" "error" "I") ∈ lw_all := lw_g (lw_at lw_m11 102 rfl) rfl
theorem q2556 : (Jvm.Cond.methodLink "RowenTongueModel" (268 : Nat) ({ cls := "RowenTongueModel", name := "renewed", desc := "(LRowenTongueModel$Known;)LRowenTongueModel$Type;" } : Jvm.MethodName)) ∈ lw_all := lw_g (lw_at lw_m11 107 rfl) rfl
theorem q2557 : (Jvm.Cond.privateMethod ({ cls := "RowenTongueModel", name := "renewed", desc := "(LRowenTongueModel$Known;)LRowenTongueModel$Type;" } : Jvm.MethodName)) ∈ lw_tbl := lw_at lw_m11 108 rfl
theorem q2558 : (Jvm.Cond.instanceMethod ({ cls := "RowenTongueModel", name := "renewed", desc := "(LRowenTongueModel$Known;)LRowenTongueModel$Type;" } : Jvm.MethodName)) ∈ lw_all := lw_g (lw_at lw_m11 109 rfl) rfl
theorem q2559 : (Jvm.Cond.code ({ cls := "RowenTongueModel", name := "renewed", desc := "(LRowenTongueModel$Known;)LRowenTongueModel$Type;" } : Jvm.MethodName) prog_45_method_36_code (8 : Nat) (Option.some (Jvm.ClassFile.FieldType.object "RowenTongueModel$Type"))) ∈ lw_all := lw_g (lw_at lw_m11 110 rfl) rfl
theorem q2560 : (Jvm.Cond.methodLink "RowenTongueModel" (215 : Nat) ({ cls := "java/util/ArrayList", name := "size", desc := "()I" } : Jvm.MethodName)) ∈ lw_all := lw_g (lw_at lw_m11 111 rfl) rfl
theorem q2561 : (Jvm.Cond.classLink "RowenTongueModel" (92 : Nat) "RowenTongueModel$Row") ∈ lw_all := lw_g (lw_at lw_m11 112 rfl) rfl
theorem q2563 : (Jvm.Cond.methodLink "RowenTongueModel" (144 : Nat) ({ cls := "RowenTongueModel", name := "nextStamp", desc := "()J" } : Jvm.MethodName)) ∈ lw_all := lw_g (lw_at lw_m11 114 rfl) rfl
theorem q2564 : (Jvm.Cond.privateMethod ({ cls := "RowenTongueModel", name := "nextStamp", desc := "()J" } : Jvm.MethodName)) ∈ lw_tbl := lw_at lw_m11 115 rfl
theorem q2565 : (Jvm.Cond.instanceMethod ({ cls := "RowenTongueModel", name := "nextStamp", desc := "()J" } : Jvm.MethodName)) ∈ lw_all := lw_g (lw_at lw_m11 116 rfl) rfl
theorem q2566 : (Jvm.Cond.code ({ cls := "RowenTongueModel", name := "nextStamp", desc := "()J" } : Jvm.MethodName) prog_45_method_20_code (1 : Nat) (Option.some Jvm.ClassFile.FieldType.long)) ∈ lw_all := lw_g (lw_at lw_m11 117 rfl) rfl
theorem q2567 : (Jvm.Cond.methodLink "RowenTongueModel" (223 : Nat) ({ cls := "java/util/ArrayList", name := "get", desc := "(I)Ljava/lang/Object;" } : Jvm.MethodName)) ∈ lw_all := lw_g (lw_at lw_m11 118 rfl) rfl
theorem q2568 : (Jvm.Cond.methodLink "RowenTongueModel" (179 : Nat) ({ cls := "RowenTongueModel", name := "lacking", desc := "(I)LRowenTongueModel$Row;" } : Jvm.MethodName)) ∈ lw_all := lw_g (lw_at lw_m11 119 rfl) rfl
theorem q2569 : (Jvm.Cond.static ({ cls := "RowenTongueModel", name := "lacking", desc := "(I)LRowenTongueModel$Row;" } : Jvm.MethodName)) ∈ lw_all := lw_g (lw_at lw_m11 120 rfl) rfl
theorem q2570 : (Jvm.Cond.code ({ cls := "RowenTongueModel", name := "lacking", desc := "(I)LRowenTongueModel$Row;" } : Jvm.MethodName) prog_45_method_18_code (2 : Nat) (Option.some (Jvm.ClassFile.FieldType.object "RowenTongueModel$Row"))) ∈ lw_all := lw_g (lw_at lw_m11 121 rfl) rfl
theorem q2572 : (Jvm.Cond.methodLink "RowenTongueModel" (94 : Nat) ({ cls := "RowenTongueModel$Row", name := "<init>", desc := "(I)V" } : Jvm.MethodName)) ∈ lw_all := lw_g (lw_at lw_m11 123 rfl) rfl
theorem q2577 : (Jvm.Cond.fieldLink "RowenTongueModel" (131 : Nat) "RowenTongueModel$Row" "kind" "I") ∈ lw_all := lw_g (lw_at lw_m11 128 rfl) rfl
theorem q2579 : (Jvm.Cond.fieldLink "RowenTongueModel" (169 : Nat) "RowenTongueModel$Row" "is" "LRowenTongueModel$Row;") ∈ lw_all := lw_g (lw_at lw_m11 130 rfl) rfl
theorem q2580 : (Jvm.Cond.fieldLink "RowenTongueModel" (98 : Nat) "RowenTongueModel$Row" "label" "I") ∈ lw_all := lw_g (lw_at lw_m11 131 rfl) rfl
theorem q2581 : (Jvm.Cond.fieldLink "RowenTongueModel" (101 : Nat) "RowenTongueModel$Row" "type" "LRowenTongueModel$Type;") ∈ lw_all := lw_g (lw_at lw_m11 132 rfl) rfl
theorem q2582 : (Jvm.Cond.fieldLink "RowenTongueModel" (104 : Nat) "RowenTongueModel$Row" "rest" "LRowenTongueModel$Row;") ∈ lw_all := lw_g (lw_at lw_m11 133 rfl) rfl
theorem q2583 : (Jvm.Cond.fieldLink "RowenTongueModel" (95 : Nat) "RowenTongueModel$Row" "lacks" "I") ∈ lw_all := lw_g (lw_at lw_m11 134 rfl) rfl
theorem q2584 : (Jvm.Cond.fieldLink "RowenTongueModel" (143 : Nat) "RowenTongueModel$Row" "isComparable" "Z") ∈ lw_all := lw_g (lw_at lw_m11 135 rfl) rfl
theorem q2600 : (Jvm.Cond.methodLink "RowenTongueModel" (258 : Nat) ({ cls := "java/util/ArrayList", name := "isEmpty", desc := "()Z" } : Jvm.MethodName)) ∈ lw_all := lw_g (lw_at lw_m11 151 rfl) rfl
theorem q2601 : (Jvm.Cond.methodLink "RowenTongueModel" (238 : Nat) ({ cls := "RowenTongueModel", name := "renewed", desc := "(LRowenTongueModel$Type;LRowenTongueModel$Known;[LRowenTongueModel$Row;J)LRowenTongueModel$Type;" } : Jvm.MethodName)) ∈ lw_all := lw_g (lw_at lw_m11 152 rfl) rfl
theorem q2602 : (Jvm.Cond.static ({ cls := "RowenTongueModel", name := "renewed", desc := "(LRowenTongueModel$Type;LRowenTongueModel$Known;[LRowenTongueModel$Row;J)LRowenTongueModel$Type;" } : Jvm.MethodName)) ∈ lw_all := lw_g (lw_at lw_m11 153 rfl) rfl
theorem q2603 : (Jvm.Cond.code ({ cls := "RowenTongueModel", name := "renewed", desc := "(LRowenTongueModel$Type;LRowenTongueModel$Known;[LRowenTongueModel$Row;J)LRowenTongueModel$Type;" } : Jvm.MethodName) prog_45_method_34_code (9 : Nat) (Option.some (Jvm.ClassFile.FieldType.object "RowenTongueModel$Type"))) ∈ lw_all := lw_g (lw_at lw_m11 154 rfl) rfl
theorem q2604 : (Jvm.Cond.methodLink "RowenTongueModel" (111 : Nat) ({ cls := "RowenTongueModel$Type", name := "now", desc := "()LRowenTongueModel$Type;" } : Jvm.MethodName)) ∈ lw_all := lw_g (lw_at lw_m11 155 rfl) rfl
theorem q2608 : (Jvm.Cond.methodLink "RowenTongueModel" (242 : Nat) ({ cls := "RowenTongueModel", name := "function", desc := "(LRowenTongueModel$Type;LRowenTongueModel$Type;)LRowenTongueModel$Type;" } : Jvm.MethodName)) ∈ lw_all := lw_g (lw_at lw_m11 159 rfl) rfl
theorem q2609 : (Jvm.Cond.static ({ cls := "RowenTongueModel", name := "function", desc := "(LRowenTongueModel$Type;LRowenTongueModel$Type;)LRowenTongueModel$Type;" } : Jvm.MethodName)) ∈ lw_all := lw_g (lw_at lw_m11 160 rfl) rfl
theorem q2610 : (Jvm.Cond.code ({ cls := "RowenTongueModel", name := "function", desc := "(LRowenTongueModel$Type;LRowenTongueModel$Type;)LRowenTongueModel$Type;" } : Jvm.MethodName) prog_45_method_16_code (3 : Nat) (Option.some (Jvm.ClassFile.FieldType.object "RowenTongueModel$Type"))) ∈ lw_all := lw_g (lw_at lw_m11 161 rfl) rfl
theorem q2611 : (Jvm.Cond.methodLink "RowenTongueModel" (246 : Nat) ({ cls := "RowenTongueModel", name := "renewedRow", desc := "(LRowenTongueModel$Row;LRowenTongueModel$Known;[LRowenTongueModel$Row;J)LRowenTongueModel$Row;" } : Jvm.MethodName)) ∈ lw_all := lw_g (lw_at lw_m11 162 rfl) rfl
theorem q2612 : (Jvm.Cond.static ({ cls := "RowenTongueModel", name := "renewedRow", desc := "(LRowenTongueModel$Row;LRowenTongueModel$Known;[LRowenTongueModel$Row;J)LRowenTongueModel$Row;" } : Jvm.MethodName)) ∈ lw_all := lw_g (lw_at lw_m11 163 rfl) rfl
theorem q2613 : (Jvm.Cond.code ({ cls := "RowenTongueModel", name := "renewedRow", desc := "(LRowenTongueModel$Row;LRowenTongueModel$Known;[LRowenTongueModel$Row;J)LRowenTongueModel$Row;" } : Jvm.MethodName) prog_45_method_35_code (8 : Nat) (Option.some (Jvm.ClassFile.FieldType.object "RowenTongueModel$Row"))) ∈ lw_all := lw_g (lw_at lw_m11 164 rfl) rfl
theorem q2614 : (Jvm.Cond.methodLink "RowenTongueModel" (128 : Nat) ({ cls := "RowenTongueModel$Row", name := "now", desc := "()LRowenTongueModel$Row;" } : Jvm.MethodName)) ∈ lw_all := lw_g (lw_at lw_m11 165 rfl) rfl
theorem q2618 : (Jvm.Cond.methodLink "RowenTongueModel" (162 : Nat) ({ cls := "RowenTongueModel", name := "row", desc := "(ILRowenTongueModel$Type;LRowenTongueModel$Row;)LRowenTongueModel$Row;" } : Jvm.MethodName)) ∈ lw_all := lw_g (lw_at lw_m11 169 rfl) rfl
theorem q2619 : (Jvm.Cond.static ({ cls := "RowenTongueModel", name := "row", desc := "(ILRowenTongueModel$Type;LRowenTongueModel$Row;)LRowenTongueModel$Row;" } : Jvm.MethodName)) ∈ lw_all := lw_g (lw_at lw_m11 170 rfl) rfl
theorem q2620 : (Jvm.Cond.code ({ cls := "RowenTongueModel", name := "row", desc := "(ILRowenTongueModel$Type;LRowenTongueModel$Row;)LRowenTongueModel$Row;" } : Jvm.MethodName) prog_45_method_19_code (4 : Nat) (Option.some (Jvm.ClassFile.FieldType.object "RowenTongueModel$Row"))) ∈ lw_all := lw_g (lw_at lw_m11 171 rfl) rfl
theorem q2621 : (Jvm.Cond.methodLink "RowenTongueModel" (254 : Nat) ({ cls := "java/util/ArrayList", name := "indexOf", desc := "(Ljava/lang/Object;)I" } : Jvm.MethodName)) ∈ lw_all := lw_g (lw_at lw_m11 172 rfl) rfl
theorem q2622 : (Jvm.Cond.methodLink "RowenTongueModel" (250 : Nat) ({ cls := "RowenTongueModel", name := "of", desc := "(ILRowenTongueModel$Row;)LRowenTongueModel$Type;" } : Jvm.MethodName)) ∈ lw_all := lw_g (lw_at lw_m11 173 rfl) rfl
theorem q2623 : (Jvm.Cond.static ({ cls := "RowenTongueModel", name := "of", desc := "(ILRowenTongueModel$Row;)LRowenTongueModel$Type;" } : Jvm.MethodName)) ∈ lw_all := lw_g (lw_at lw_m11 174 rfl) rfl
theorem q2624 : (Jvm.Cond.code ({ cls := "RowenTongueModel", name := "of", desc := "(ILRowenTongueModel$Row;)LRowenTongueModel$Type;" } : Jvm.MethodName) prog_45_method_17_code (3 : Nat) (Option.some (Jvm.ClassFile.FieldType.object "RowenTongueModel$Type"))) ∈ lw_all := lw_g (lw_at lw_m11 175 rfl) rfl
theorem q2625 : (Jvm.Cond.classLink "RowenTongueModel" (204 : Nat) "RowenTongueModel$Known") ∈ lw_all := lw_g (lw_at lw_m11 176 rfl) rfl
theorem q2627 : (Jvm.Cond.methodLink "RowenTongueModel" (206 : Nat) ({ cls := "RowenTongueModel$Known", name := "<init>", desc := "(ILRowenTongueModel$Type;LRowenTongueModel$Known;)V" } : Jvm.MethodName)) ∈ lw_all := lw_g (lw_at lw_m11 178 rfl) rfl
theorem q2634 : (Jvm.Cond.fieldLink "RowenTongueModel" (262 : Nat) "RowenTongueModel$Known" "name" "I") ∈ lw_all := lw_g (lw_at lw_m11 185 rfl) rfl
theorem q2636 : (Jvm.Cond.fieldLink "RowenTongueModel" (210 : Nat) "RowenTongueModel$Known" "type" "LRowenTongueModel$Type;") ∈ lw_all := lw_g (lw_at lw_m11 187 rfl) rfl
theorem q2638 : (Jvm.Cond.fieldLink "RowenTongueModel" (219 : Nat) "RowenTongueModel$Known" "types" "Ljava/util/ArrayList;") ∈ lw_all := lw_g (lw_at lw_m11 189 rfl) rfl
theorem q2640 : (Jvm.Cond.fieldLink "RowenTongueModel" (227 : Nat) "RowenTongueModel$Known" "rows" "Ljava/util/ArrayList;") ∈ lw_all := lw_g (lw_at lw_m11 191 rfl) rfl
theorem q2642 : (Jvm.Cond.fieldLink "RowenTongueModel" (211 : Nat) "RowenTongueModel$Known" "around" "LRowenTongueModel$Known;") ∈ lw_all := lw_g (lw_at lw_m11 193 rfl) rfl
theorem q2654 : (Jvm.Cond.methodLink "RowenTongueModel" (155 : Nat) ({ cls := "RowenTongueModel", name := "same", desc := "(LRowenTongueModel$Type;LRowenTongueModel$Type;)V" } : Jvm.MethodName)) ∈ lw_all := lw_g (lw_at lw_m11 205 rfl) rfl
theorem q2655 : (Jvm.Cond.privateMethod ({ cls := "RowenTongueModel", name := "same", desc := "(LRowenTongueModel$Type;LRowenTongueModel$Type;)V" } : Jvm.MethodName)) ∈ lw_tbl := lw_at lw_m11 206 rfl
theorem q2656 : (Jvm.Cond.instanceMethod ({ cls := "RowenTongueModel", name := "same", desc := "(LRowenTongueModel$Type;LRowenTongueModel$Type;)V" } : Jvm.MethodName)) ∈ lw_all := lw_g (lw_at lw_m11 207 rfl) rfl
theorem q2657 : (Jvm.Cond.code ({ cls := "RowenTongueModel", name := "same", desc := "(LRowenTongueModel$Type;LRowenTongueModel$Type;)V" } : Jvm.MethodName) prog_45_method_25_code (7 : Nat) (Option.none : Option Jvm.ClassFile.FieldType)) ∈ lw_all := lw_g (lw_at lw_m11 208 rfl) rfl
theorem q2658 : (Jvm.Cond.methodLink "RowenTongueModel" (151 : Nat) ({ cls := "RowenTongueModel", name := "binds", desc := "(LRowenTongueModel$Type;LRowenTongueModel$Type;)V" } : Jvm.MethodName)) ∈ lw_all := lw_g (lw_at lw_m11 209 rfl) rfl
theorem q2659 : (Jvm.Cond.privateMethod ({ cls := "RowenTongueModel", name := "binds", desc := "(LRowenTongueModel$Type;LRowenTongueModel$Type;)V" } : Jvm.MethodName)) ∈ lw_tbl := lw_at lw_m11 210 rfl
theorem q2660 : (Jvm.Cond.instanceMethod ({ cls := "RowenTongueModel", name := "binds", desc := "(LRowenTongueModel$Type;LRowenTongueModel$Type;)V" } : Jvm.MethodName)) ∈ lw_all := lw_g (lw_at lw_m11 211 rfl) rfl
theorem q2661 : (Jvm.Cond.code ({ cls := "RowenTongueModel", name := "binds", desc := "(LRowenTongueModel$Type;LRowenTongueModel$Type;)V" } : Jvm.MethodName) prog_45_method_24_code (3 : Nat) (Option.none : Option Jvm.ClassFile.FieldType)) ∈ lw_all := lw_g (lw_at lw_m11 212 rfl) rfl
theorem q2662 : (Jvm.Cond.methodLink "RowenTongueModel" (120 : Nat) ({ cls := "RowenTongueModel", name := "isWithin", desc := "(LRowenTongueModel$Type;LRowenTongueModel$Row;LRowenTongueModel$Type;J)Z" } : Jvm.MethodName)) ∈ lw_all := lw_g (lw_at lw_m11 213 rfl) rfl
theorem q2663 : (Jvm.Cond.static ({ cls := "RowenTongueModel", name := "isWithin", desc := "(LRowenTongueModel$Type;LRowenTongueModel$Row;LRowenTongueModel$Type;J)Z" } : Jvm.MethodName)) ∈ lw_all := lw_g (lw_at lw_m11 214 rfl) rfl
theorem q2664 : (Jvm.Cond.code ({ cls := "RowenTongueModel", name := "isWithin", desc := "(LRowenTongueModel$Type;LRowenTongueModel$Row;LRowenTongueModel$Type;J)Z" } : Jvm.MethodName) prog_45_method_21_code (6 : Nat) (Option.some Jvm.ClassFile.FieldType.boolean)) ∈ lw_all := lw_g (lw_at lw_m11 215 rfl) rfl
theorem q2665 : (Jvm.Cond.methodLink "RowenTongueModel" (124 : Nat) ({ cls := "RowenTongueModel", name := "isWithinRow", desc := "(LRowenTongueModel$Type;LRowenTongueModel$Row;LRowenTongueModel$Row;J)Z" } : Jvm.MethodName)) ∈ lw_all := lw_g (lw_at lw_m11 216 rfl) rfl
theorem q2666 : (Jvm.Cond.static ({ cls := "RowenTongueModel", name := "isWithinRow", desc := "(LRowenTongueModel$Type;LRowenTongueModel$Row;LRowenTongueModel$Row;J)Z" } : Jvm.MethodName)) ∈ lw_all := lw_g (lw_at lw_m11 217 rfl) rfl
theorem q2667 : (Jvm.Cond.code ({ cls := "RowenTongueModel", name := "isWithinRow", desc := "(LRowenTongueModel$Type;LRowenTongueModel$Row;LRowenTongueModel$Row;J)Z" } : Jvm.MethodName) prog_45_method_22_code (7 : Nat) (Option.some Jvm.ClassFile.FieldType.boolean)) ∈ lw_all := lw_g (lw_at lw_m11 218 rfl) rfl
theorem q2668 : (Jvm.Cond.methodLink "RowenTongueModel" (139 : Nat) ({ cls := "RowenTongueModel", name := "compares", desc := "(LRowenTongueModel$Type;J)V" } : Jvm.MethodName)) ∈ lw_all := lw_g (lw_at lw_m11 219 rfl) rfl
theorem q2669 : (Jvm.Cond.static ({ cls := "RowenTongueModel", name := "compares", desc := "(LRowenTongueModel$Type;J)V" } : Jvm.MethodName)) ∈ lw_all := lw_g (lw_at lw_m11 220 rfl) rfl
theorem q2670 : (Jvm.Cond.code ({ cls := "RowenTongueModel", name := "compares", desc := "(LRowenTongueModel$Type;J)V" } : Jvm.MethodName) prog_45_method_23_code (5 : Nat) (Option.none : Option Jvm.ClassFile.FieldType)) ∈ lw_all := lw_g (lw_at lw_m11 221 rfl) rfl
theorem q2671 : (Jvm.Cond.methodLink "RowenTongueModel" (158 : Nat) ({ cls := "RowenTongueModel", name := "sameRows", desc := "(LRowenTongueModel$Row;LRowenTongueModel$Row;)V" } : Jvm.MethodName)) ∈ lw_all := lw_g (lw_at lw_m11 222 rfl) rfl
theorem q2672 : (Jvm.Cond.privateMethod ({ cls := "RowenTongueModel", name := "sameRows", desc := "(LRowenTongueModel$Row;LRowenTongueModel$Row;)V" } : Jvm.MethodName)) ∈ lw_tbl := lw_at lw_m11 223 rfl
theorem q2673 : (Jvm.Cond.instanceMethod ({ cls := "RowenTongueModel", name := "sameRows", desc := "(LRowenTongueModel$Row;LRowenTongueModel$Row;)V" } : Jvm.MethodName)) ∈ lw_all := lw_g (lw_at lw_m11 224 rfl) rfl
theorem q2674 : (Jvm.Cond.code ({ cls := "RowenTongueModel", name := "sameRows", desc := "(LRowenTongueModel$Row;LRowenTongueModel$Row;)V" } : Jvm.MethodName) prog_45_method_31_code (14 : Nat) (Option.none : Option Jvm.ClassFile.FieldType)) ∈ lw_all := lw_g (lw_at lw_m11 225 rfl) rfl
theorem q2676 : (Jvm.Cond.methodLink "RowenTongueModel" (171 : Nat) ({ cls := "RowenTongueModel", name := "lays", desc := "(LRowenTongueModel$Row;[LRowenTongueModel$Type;)LRowenTongueModel$Row;" } : Jvm.MethodName)) ∈ lw_all := lw_g (lw_at lw_m11 227 rfl) rfl
theorem q2677 : (Jvm.Cond.static ({ cls := "RowenTongueModel", name := "lays", desc := "(LRowenTongueModel$Row;[LRowenTongueModel$Type;)LRowenTongueModel$Row;" } : Jvm.MethodName)) ∈ lw_all := lw_g (lw_at lw_m11 228 rfl) rfl
theorem q2678 : (Jvm.Cond.code ({ cls := "RowenTongueModel", name := "lays", desc := "(LRowenTongueModel$Row;[LRowenTongueModel$Type;)LRowenTongueModel$Row;" } : Jvm.MethodName) prog_45_method_26_code (3 : Nat) (Option.some (Jvm.ClassFile.FieldType.object "RowenTongueModel$Row"))) ∈ lw_all := lw_g (lw_at lw_m11 229 rfl) rfl
theorem q2679 : (Jvm.Cond.methodLink "RowenTongueModel" (175 : Nat) ({ cls := "RowenTongueModel", name := "setOf", desc := "([LRowenTongueModel$Type;)I" } : Jvm.MethodName)) ∈ lw_all := lw_g (lw_at lw_m11 230 rfl) rfl
theorem q2680 : (Jvm.Cond.static ({ cls := "RowenTongueModel", name := "setOf", desc := "([LRowenTongueModel$Type;)I" } : Jvm.MethodName)) ∈ lw_all := lw_g (lw_at lw_m11 231 rfl) rfl
theorem q2681 : (Jvm.Cond.code ({ cls := "RowenTongueModel", name := "setOf", desc := "([LRowenTongueModel$Type;)I" } : Jvm.MethodName) prog_45_method_27_code (3 : Nat) (Option.some Jvm.ClassFile.FieldType.int)) ∈ lw_all := lw_g (lw_at lw_m11 232 rfl) rfl
theorem q2682 : (Jvm.Cond.methodLink "RowenTongueModel" (183 : Nat) ({ cls := "RowenTongueModel", name := "endsRow", desc := "(LRowenTongueModel$Row;[LRowenTongueModel$Type;ILRowenTongueModel$Row;)V" } : Jvm.MethodName)) ∈ lw_all := lw_g (lw_at lw_m11 233 rfl) rfl
theorem q2683 : (Jvm.Cond.privateMethod ({ cls := "RowenTongueModel", name := "endsRow", desc := "(LRowenTongueModel$Row;[LRowenTongueModel$Type;ILRowenTongueModel$Row;)V" } : Jvm.MethodName)) ∈ lw_tbl := lw_at lw_m11 234 rfl
theorem q2684 : (Jvm.Cond.instanceMethod ({ cls := "RowenTongueModel", name := "endsRow", desc := "(LRowenTongueModel$Row;[LRowenTongueModel$Type;ILRowenTongueModel$Row;)V" } : Jvm.MethodName)) ∈ lw_all := lw_g (lw_at lw_m11 235 rfl) rfl
theorem q2685 : (Jvm.Cond.code ({ cls := "RowenTongueModel", name := "endsRow", desc := "(LRowenTongueModel$Row;[LRowenTongueModel$Type;ILRowenTongueModel$Row;)V" } : Jvm.MethodName) prog_45_method_29_code (8 : Nat) (Option.none : Option Jvm.ClassFile.FieldType)) ∈ lw_all := lw_g (lw_at lw_m11 236 rfl) rfl
theorem q2686 : (Jvm.Cond.methodLink "RowenTongueModel" (165 : Nat) ({ cls := "RowenTongueModel", name := "rowOf", desc := "([LRowenTongueModel$Type;ILRowenTongueModel$Row;)LRowenTongueModel$Row;" } : Jvm.MethodName)) ∈ lw_all := lw_g (lw_at lw_m11 237 rfl) rfl
theorem q2687 : (Jvm.Cond.static ({ cls := "RowenTongueModel", name := "rowOf", desc := "([LRowenTongueModel$Type;ILRowenTongueModel$Row;)LRowenTongueModel$Row;" } : Jvm.MethodName)) ∈ lw_all := lw_g (lw_at lw_m11 238 rfl) rfl
theorem q2688 : (Jvm.Cond.code ({ cls := "RowenTongueModel", name := "rowOf", desc := "([LRowenTongueModel$Type;ILRowenTongueModel$Row;)LRowenTongueModel$Row;" } : Jvm.MethodName) prog_45_method_28_code (5 : Nat) (Option.some (Jvm.ClassFile.FieldType.object "RowenTongueModel$Row"))) ∈ lw_all := lw_g (lw_at lw_m11 239 rfl) rfl
theorem q2689 : (Jvm.Cond.methodLink "RowenTongueModel" (187 : Nat) ({ cls := "RowenTongueModel", name := "comparesAll", desc := "(Z[LRowenTongueModel$Type;I)V" } : Jvm.MethodName)) ∈ lw_all := lw_g (lw_at lw_m12 0 rfl) rfl
theorem q2690 : (Jvm.Cond.privateMethod ({ cls := "RowenTongueModel", name := "comparesAll", desc := "(Z[LRowenTongueModel$Type;I)V" } : Jvm.MethodName)) ∈ lw_tbl := lw_at lw_m12 1 rfl
theorem q2691 : (Jvm.Cond.instanceMethod ({ cls := "RowenTongueModel", name := "comparesAll", desc := "(Z[LRowenTongueModel$Type;I)V" } : Jvm.MethodName)) ∈ lw_all := lw_g (lw_at lw_m12 2 rfl) rfl
theorem q2692 : (Jvm.Cond.code ({ cls := "RowenTongueModel", name := "comparesAll", desc := "(Z[LRowenTongueModel$Type;I)V" } : Jvm.MethodName) prog_45_method_30_code (7 : Nat) (Option.none : Option Jvm.ClassFile.FieldType)) ∈ lw_all := lw_g (lw_at lw_m12 3 rfl) rfl
theorem q2693 : (Jvm.Cond.methodLink "RowenTongueModel" (275 : Nat) ({ cls := "RowenTongueModel", name := "general", desc := "(ILRowenTongueModel$Type;LRowenTongueModel$Known;)LRowenTongueModel$Known;" } : Jvm.MethodName)) ∈ lw_all := lw_g (lw_at lw_m12 4 rfl) rfl
theorem q2694 : (Jvm.Cond.privateMethod ({ cls := "RowenTongueModel", name := "general", desc := "(ILRowenTongueModel$Type;LRowenTongueModel$Known;)LRowenTongueModel$Known;" } : Jvm.MethodName)) ∈ lw_tbl := lw_at lw_m12 5 rfl
theorem q2695 : (Jvm.Cond.instanceMethod ({ cls := "RowenTongueModel", name := "general", desc := "(ILRowenTongueModel$Type;LRowenTongueModel$Known;)LRowenTongueModel$Known;" } : Jvm.MethodName)) ∈ lw_all := lw_g (lw_at lw_m12 6 rfl) rfl
theorem q2696 : (Jvm.Cond.code ({ cls := "RowenTongueModel", name := "general", desc := "(ILRowenTongueModel$Type;LRowenTongueModel$Known;)LRowenTongueModel$Known;" } : Jvm.MethodName) prog_45_method_33_code (13 : Nat) (Option.some (Jvm.ClassFile.FieldType.object "RowenTongueModel$Known"))) ∈ lw_all := lw_g (lw_at lw_m12 7 rfl) rfl
theorem q2697 : (Jvm.Cond.classLink "RowenTongueModel" (192 : Nat) "java/util/ArrayList") ∈ lw_all := lw_g (lw_at lw_m12 8 rfl) rfl
theorem q2698 : (Jvm.Cond.methodLink "RowenTongueModel" (209 : Nat) ({ cls := "java/util/ArrayList", name := "<init>", desc := "()V" } : Jvm.MethodName)) ∈ lw_all := lw_g (lw_at lw_m12 9 rfl) rfl
theorem q2699 : (Jvm.Cond.methodLink "RowenTongueModel" (197 : Nat) ({ cls := "RowenTongueModel", name := "variables", desc := "(LRowenTongueModel$Type;Ljava/util/ArrayList;Ljava/util/ArrayList;J)V" } : Jvm.MethodName)) ∈ lw_all := lw_g (lw_at lw_m12 10 rfl) rfl
theorem q2700 : (Jvm.Cond.static ({ cls := "RowenTongueModel", name := "variables", desc := "(LRowenTongueModel$Type;Ljava/util/ArrayList;Ljava/util/ArrayList;J)V" } : Jvm.MethodName)) ∈ lw_all := lw_g (lw_at lw_m12 11 rfl) rfl
theorem q2701 : (Jvm.Cond.code ({ cls := "RowenTongueModel", name := "variables", desc := "(LRowenTongueModel$Type;Ljava/util/ArrayList;Ljava/util/ArrayList;J)V" } : Jvm.MethodName) prog_45_method_32_code (7 : Nat) (Option.none : Option Jvm.ClassFile.FieldType)) ∈ lw_all := lw_g (lw_at lw_m12 12 rfl) rfl
theorem q2702 : (Jvm.Cond.methodLink "RowenTongueModel" (191 : Nat) ({ cls := "java/util/ArrayList", name := "add", desc := "(Ljava/lang/Object;)Z" } : Jvm.MethodName)) ∈ lw_all := lw_g (lw_at lw_m12 13 rfl) rfl
theorem q2703 : (Jvm.Cond.methodLink "RowenTongueModel" (201 : Nat) ({ cls := "java/util/ArrayList", name := "contains", desc := "(Ljava/lang/Object;)Z" } : Jvm.MethodName)) ∈ lw_all := lw_g (lw_at lw_m12 14 rfl) rfl
theorem q2708 : (Jvm.Cond.methodLink "RowenTongueModel" (230 : Nat) ({ cls := "java/lang/Integer", name := "bitCount", desc := "(I)I" } : Jvm.MethodName)) ∈ lw_all := lw_g (lw_at lw_m12 19 rfl) rfl
theorem q2714 : (Jvm.Cond.methodLink "RowenTongueModel" (279 : Nat) ({ cls := "RowenTongueModel", name := "foundMatch", desc := "(ILRowenTongueModel$Known;)LRowenTongueModel$Type;" } : Jvm.MethodName)) ∈ lw_all := lw_g (lw_at lw_m12 25 rfl) rfl
theorem q2715 : (Jvm.Cond.privateMethod ({ cls := "RowenTongueModel", name := "foundMatch", desc := "(ILRowenTongueModel$Known;)LRowenTongueModel$Type;" } : Jvm.MethodName)) ∈ lw_tbl := lw_at lw_m12 26 rfl
theorem q2716 : (Jvm.Cond.instanceMethod ({ cls := "RowenTongueModel", name := "foundMatch", desc := "(ILRowenTongueModel$Known;)LRowenTongueModel$Type;" } : Jvm.MethodName)) ∈ lw_all := lw_g (lw_at lw_m12 27 rfl) rfl
theorem q2717 : (Jvm.Cond.code ({ cls := "RowenTongueModel", name := "foundMatch", desc := "(ILRowenTongueModel$Known;)LRowenTongueModel$Type;" } : Jvm.MethodName) prog_45_method_39_code (12 : Nat) (Option.some (Jvm.ClassFile.FieldType.object "RowenTongueModel$Type"))) ∈ lw_all := lw_g (lw_at lw_m12 28 rfl) rfl
theorem q2718 : (Jvm.Cond.methodLink "RowenTongueModel" (282 : Nat) ({ cls := "RowenTongueModel", name := "foundRecord", desc := "(ILRowenTongueModel$Known;)LRowenTongueModel$Type;" } : Jvm.MethodName)) ∈ lw_all := lw_g (lw_at lw_m12 29 rfl) rfl
theorem q2719 : (Jvm.Cond.privateMethod ({ cls := "RowenTongueModel", name := "foundRecord", desc := "(ILRowenTongueModel$Known;)LRowenTongueModel$Type;" } : Jvm.MethodName)) ∈ lw_tbl := lw_at lw_m12 30 rfl
theorem q2720 : (Jvm.Cond.instanceMethod ({ cls := "RowenTongueModel", name := "foundRecord", desc := "(ILRowenTongueModel$Known;)LRowenTongueModel$Type;" } : Jvm.MethodName)) ∈ lw_all := lw_g (lw_at lw_m12 31 rfl) rfl
theorem q2721 : (Jvm.Cond.code ({ cls := "RowenTongueModel", name := "foundRecord", desc := "(ILRowenTongueModel$Known;)LRowenTongueModel$Type;" } : Jvm.MethodName) prog_45_method_38_code (7 : Nat) (Option.some (Jvm.ClassFile.FieldType.object "RowenTongueModel$Type"))) ∈ lw_all := lw_g (lw_at lw_m12 32 rfl) rfl
theorem q2723 : (Jvm.Cond.instanceMethod ({ cls := "RowenTongueModel", name := "errorAt", desc := "()I" } : Jvm.MethodName)) ∈ lw_all := lw_g (lw_at lw_m12 34 rfl) rfl
theorem q2724 : (Jvm.Cond.selects "RowenTongueModel" ({ cls := "RowenTongueModel", name := "errorAt", desc := "()I" } : Jvm.MethodName) ({ cls := "RowenTongueModel", name := "errorAt", desc := "()I" } : Jvm.MethodName)) ∈ lw_all := lw_g (lw_at lw_m12 35 rfl) rfl
theorem q2725 : (Jvm.Cond.code ({ cls := "RowenTongueModel", name := "errorAt", desc := "()I" } : Jvm.MethodName) prog_45_method_42_code (1 : Nat) (Option.some Jvm.ClassFile.FieldType.int)) ∈ lw_all := lw_g (lw_at lw_m12 36 rfl) rfl
theorem q2727 : (Jvm.Cond.instanceMethod ({ cls := "RowenTongueModel", name := "size", desc := "(I)I" } : Jvm.MethodName)) ∈ lw_all := lw_g (lw_at lw_m12 38 rfl) rfl
theorem q2728 : (Jvm.Cond.selects "RowenTongueModel" ({ cls := "RowenTongueModel", name := "size", desc := "(I)I" } : Jvm.MethodName) ({ cls := "RowenTongueModel", name := "size", desc := "(I)I" } : Jvm.MethodName)) ∈ lw_all := lw_g (lw_at lw_m12 39 rfl) rfl
theorem q2729 : (Jvm.Cond.code ({ cls := "RowenTongueModel", name := "size", desc := "(I)I" } : Jvm.MethodName) prog_45_method_49_code (4 : Nat) (Option.some Jvm.ClassFile.FieldType.int)) ∈ lw_all := lw_g (lw_at lw_m12 40 rfl) rfl
theorem q2730 : (Jvm.Cond.methodLink "RowenTongueModel" (329 : Nat) ({ cls := "RowenTongueModel", name := "textFor", desc := "(I)Ljava/lang/String;" } : Jvm.MethodName)) ∈ lw_all := lw_g (lw_at lw_m12 41 rfl) rfl
theorem q2731 : (Jvm.Cond.privateMethod ({ cls := "RowenTongueModel", name := "textFor", desc := "(I)Ljava/lang/String;" } : Jvm.MethodName)) ∈ lw_tbl := lw_at lw_m12 42 rfl
theorem q2732 : (Jvm.Cond.instanceMethod ({ cls := "RowenTongueModel", name := "textFor", desc := "(I)Ljava/lang/String;" } : Jvm.MethodName)) ∈ lw_all := lw_g (lw_at lw_m12 43 rfl) rfl
theorem q2733 : (Jvm.Cond.code ({ cls := "RowenTongueModel", name := "textFor", desc := "(I)Ljava/lang/String;" } : Jvm.MethodName) prog_45_method_48_code (3 : Nat) (Option.some (Jvm.ClassFile.FieldType.object "java/lang/String"))) ∈ lw_all := lw_g (lw_at lw_m12 44 rfl) rfl
theorem q2734 : (Jvm.Cond.methodLink "RowenTongueModel" (325 : Nat) ({ cls := "RowenTongueModel", name := "textOf", desc := "(LRowenTongueModel$Type;)Ljava/lang/String;" } : Jvm.MethodName)) ∈ lw_all := lw_g (lw_at lw_m12 45 rfl) rfl
theorem q2735 : (Jvm.Cond.static ({ cls := "RowenTongueModel", name := "textOf", desc := "(LRowenTongueModel$Type;)Ljava/lang/String;" } : Jvm.MethodName)) ∈ lw_all := lw_g (lw_at lw_m12 46 rfl) rfl
theorem q2736 : (Jvm.Cond.code ({ cls := "RowenTongueModel", name := "textOf", desc := "(LRowenTongueModel$Type;)Ljava/lang/String;" } : Jvm.MethodName) prog_45_method_47_code (9 : Nat) (Option.some (Jvm.ClassFile.FieldType.object "java/lang/String"))) ∈ lw_all := lw_g (lw_at lw_m12 47 rfl) rfl
theorem q2737 : (Jvm.Cond.classLink "RowenTongueModel" (296 : Nat) "java/lang/StringBuilder") ∈ lw_all := lw_g (lw_at lw_m12 48 rfl) rfl
theorem q2738 : (Jvm.Cond.methodLink "RowenTongueModel" (320 : Nat) ({ cls := "java/lang/StringBuilder", name := "<init>", desc := "()V" } : Jvm.MethodName)) ∈ lw_all := lw_g (lw_at lw_m12 49 rfl) rfl
theorem q2739 : (Jvm.Cond.methodLink "RowenTongueModel" (316 : Nat) ({ cls := "RowenTongueModel", name := "putType", desc := "(LRowenTongueModel$Type;Ljava/lang/StringBuilder;Ljava/util/ArrayList;)V" } : Jvm.MethodName)) ∈ lw_all := lw_g (lw_at lw_m12 50 rfl) rfl
theorem q2740 : (Jvm.Cond.static ({ cls := "RowenTongueModel", name := "putType", desc := "(LRowenTongueModel$Type;Ljava/lang/StringBuilder;Ljava/util/ArrayList;)V" } : Jvm.MethodName)) ∈ lw_all := lw_g (lw_at lw_m12 51 rfl) rfl
theorem q2741 : (Jvm.Cond.code ({ cls := "RowenTongueModel", name := "putType", desc := "(LRowenTongueModel$Type;Ljava/lang/StringBuilder;Ljava/util/ArrayList;)V" } : Jvm.MethodName) prog_45_method_46_code (8 : Nat) (Option.none : Option Jvm.ClassFile.FieldType)) ∈ lw_all := lw_g (lw_at lw_m12 52 rfl) rfl
theorem q2742 : (Jvm.Cond.methodLink "RowenTongueModel" (295 : Nat) ({ cls := "java/lang/StringBuilder", name := "length", desc := "()I" } : Jvm.MethodName)) ∈ lw_all := lw_g (lw_at lw_m12 53 rfl) rfl
theorem q2743 : (Jvm.Cond.methodLink "RowenTongueModel" (308 : Nat) ({ cls := "RowenTongueModel", name := "put", desc := "(Ljava/lang/StringBuilder;C)V" } : Jvm.MethodName)) ∈ lw_all := lw_g (lw_at lw_m12 54 rfl) rfl
theorem q2744 : (Jvm.Cond.static ({ cls := "RowenTongueModel", name := "put", desc := "(Ljava/lang/StringBuilder;C)V" } : Jvm.MethodName)) ∈ lw_all := lw_g (lw_at lw_m12 55 rfl) rfl
theorem q2745 : (Jvm.Cond.code ({ cls := "RowenTongueModel", name := "put", desc := "(Ljava/lang/StringBuilder;C)V" } : Jvm.MethodName) prog_45_method_43_code (2 : Nat) (Option.none : Option Jvm.ClassFile.FieldType)) ∈ lw_all := lw_g (lw_at lw_m12 56 rfl) rfl
theorem q2746 : (Jvm.Cond.methodLink "RowenTongueModel" (300 : Nat) ({ cls := "java/lang/StringBuilder", name := "append", desc := "(C)Ljava/lang/StringBuilder;" } : Jvm.MethodName)) ∈ lw_all := lw_g (lw_at lw_m12 57 rfl) rfl
theorem q2747 : (Jvm.Cond.methodLink "RowenTongueModel" (312 : Nat) ({ cls := "RowenTongueModel", name := "putVariable", desc := "(Ljava/lang/Object;Ljava/lang/StringBuilder;Ljava/util/ArrayList;)V" } : Jvm.MethodName)) ∈ lw_all := lw_g (lw_at lw_m12 58 rfl) rfl
theorem q2748 : (Jvm.Cond.static ({ cls := "RowenTongueModel", name := "putVariable", desc := "(Ljava/lang/Object;Ljava/lang/StringBuilder;Ljava/util/ArrayList;)V" } : Jvm.MethodName)) ∈ lw_all := lw_g (lw_at lw_m12 59 rfl) rfl
theorem q2749 : (Jvm.Cond.code ({ cls := "RowenTongueModel", name := "putVariable", desc := "(Ljava/lang/Object;Ljava/lang/StringBuilder;Ljava/util/ArrayList;)V" } : Jvm.MethodName) prog_45_method_45_code (4 : Nat) (Option.none : Option Jvm.ClassFile.FieldType)) ∈ lw_all := lw_g (lw_at lw_m12 60 rfl) rfl
theorem q2750 : (Jvm.Cond.methodLink "RowenTongueModel" (304 : Nat) ({ cls := "RowenTongueModel", name := "letterOf", desc := "(I)C" } : Jvm.MethodName)) ∈ lw_all := lw_g (lw_at lw_m12 61 rfl) rfl
theorem q2751 : (Jvm.Cond.static ({ cls := "RowenTongueModel", name := "letterOf", desc := "(I)C" } : Jvm.MethodName)) ∈ lw_all := lw_g (lw_at lw_m12 62 rfl) rfl
theorem q2752 : (Jvm.Cond.code ({ cls := "RowenTongueModel", name := "letterOf", desc := "(I)C" } : Jvm.MethodName) prog_45_method_44_code (1 : Nat) (Option.some Jvm.ClassFile.FieldType.char)) ∈ lw_all := lw_g (lw_at lw_m12 63 rfl) rfl
theorem q2753 : (Jvm.Cond.methodLink "RowenTongueModel" (321 : Nat) ({ cls := "java/lang/StringBuilder", name := "toString", desc := "()Ljava/lang/String;" } : Jvm.MethodName)) ∈ lw_all := lw_g (lw_at lw_m12 64 rfl) rfl
theorem q2754 : (Jvm.Cond.methodLink "RowenTongueModel" (333 : Nat) ({ cls := "java/lang/String", name := "length", desc := "()I" } : Jvm.MethodName)) ∈ lw_all := lw_g (lw_at lw_m12 65 rfl) rfl
theorem q2756 : (Jvm.Cond.instanceMethod ({ cls := "RowenTongueModel", name := "sign", desc := "(II)C" } : Jvm.MethodName)) ∈ lw_all := lw_g (lw_at lw_m12 67 rfl) rfl
theorem q2757 : (Jvm.Cond.selects "RowenTongueModel" ({ cls := "RowenTongueModel", name := "sign", desc := "(II)C" } : Jvm.MethodName) ({ cls := "RowenTongueModel", name := "sign", desc := "(II)C" } : Jvm.MethodName)) ∈ lw_all := lw_g (lw_at lw_m12 68 rfl) rfl
theorem q2758 : (Jvm.Cond.code ({ cls := "RowenTongueModel", name := "sign", desc := "(II)C" } : Jvm.MethodName) prog_45_method_50_code (5 : Nat) (Option.some Jvm.ClassFile.FieldType.char)) ∈ lw_all := lw_g (lw_at lw_m12 69 rfl) rfl
theorem q2759 : (Jvm.Cond.methodLink "RowenTongueModel" (336 : Nat) ({ cls := "java/lang/String", name := "charAt", desc := "(I)C" } : Jvm.MethodName)) ∈ lw_all := lw_g (lw_at lw_m12 70 rfl) rfl
theorem q2761 : (Jvm.Cond.instanceMethod ({ cls := "RowenTongueModel", name := "areAlike", desc := "(II)Z" } : Jvm.MethodName)) ∈ lw_all := lw_g (lw_at lw_m12 72 rfl) rfl
theorem q2762 : (Jvm.Cond.selects "RowenTongueModel" ({ cls := "RowenTongueModel", name := "areAlike", desc := "(II)Z" } : Jvm.MethodName) ({ cls := "RowenTongueModel", name := "areAlike", desc := "(II)Z" } : Jvm.MethodName)) ∈ lw_all := lw_g (lw_at lw_m12 73 rfl) rfl
theorem q2763 : (Jvm.Cond.code ({ cls := "RowenTongueModel", name := "areAlike", desc := "(II)Z" } : Jvm.MethodName) prog_45_method_51_code (6 : Nat) (Option.some Jvm.ClassFile.FieldType.boolean)) ∈ lw_all := lw_g (lw_at lw_m12 74 rfl) rfl
theorem q2764 : (Jvm.Cond.methodLink "RowenTongueModel" (339 : Nat) ({ cls := "java/lang/String", name := "equals", desc := "(Ljava/lang/Object;)Z" } : Jvm.MethodName)) ∈ lw_all := lw_g (lw_at lw_m12 75 rfl) rfl
theorem q2766 : (Jvm.Cond.instanceMethod ({ cls := "RowenTongueModel", name := "run", desc := "(I)I" } : Jvm.MethodName)) ∈ lw_all := lw_g (lw_at lw_m12 77 rfl) rfl
theorem q2767 : (Jvm.Cond.selects "RowenTongueModel" ({ cls := "RowenTongueModel", name := "run", desc := "(I)I" } : Jvm.MethodName) ({ cls := "RowenTongueModel", name := "run", desc := "(I)I" } : Jvm.MethodName)) ∈ lw_all := lw_g (lw_at lw_m12 78 rfl) rfl
theorem q2768 : (Jvm.Cond.code ({ cls := "RowenTongueModel", name := "run", desc := "(I)I" } : Jvm.MethodName) prog_45_method_57_code (5 : Nat) (Option.some Jvm.ClassFile.FieldType.int)) ∈ lw_all := lw_g (lw_at lw_m12 79 rfl) rfl
theorem q2769 : (Jvm.Cond.methodLink "RowenTongueModel" (363 : Nat) ({ cls := "RowenTongueModel", name := "does", desc := "(ILRowenTongueModel$Bound;)LRowenTongueModel$Value;" } : Jvm.MethodName)) ∈ lw_all := lw_g (lw_at lw_m12 80 rfl) rfl
theorem q2770 : (Jvm.Cond.privateMethod ({ cls := "RowenTongueModel", name := "does", desc := "(ILRowenTongueModel$Bound;)LRowenTongueModel$Value;" } : Jvm.MethodName)) ∈ lw_tbl := lw_at lw_m12 81 rfl
theorem q2771 : (Jvm.Cond.instanceMethod ({ cls := "RowenTongueModel", name := "does", desc := "(ILRowenTongueModel$Bound;)LRowenTongueModel$Value;" } : Jvm.MethodName)) ∈ lw_all := lw_g (lw_at lw_m12 82 rfl) rfl
theorem q2772 : (Jvm.Cond.code ({ cls := "RowenTongueModel", name := "does", desc := "(ILRowenTongueModel$Bound;)LRowenTongueModel$Value;" } : Jvm.MethodName) prog_45_method_54_code (12 : Nat) (Option.some (Jvm.ClassFile.FieldType.object "RowenTongueModel$Value"))) ∈ lw_all := lw_g (lw_at lw_m12 83 rfl) rfl
theorem q2773 : (Jvm.Cond.methodLink "RowenTongueModel" (349 : Nat) ({ cls := "RowenTongueModel", name := "value", desc := "(II)LRowenTongueModel$Value;" } : Jvm.MethodName)) ∈ lw_all := lw_g (lw_at lw_m12 84 rfl) rfl
theorem q2774 : (Jvm.Cond.static ({ cls := "RowenTongueModel", name := "value", desc := "(II)LRowenTongueModel$Value;" } : Jvm.MethodName)) ∈ lw_all := lw_g (lw_at lw_m12 85 rfl) rfl
theorem q2775 : (Jvm.Cond.code ({ cls := "RowenTongueModel", name := "value", desc := "(II)LRowenTongueModel$Value;" } : Jvm.MethodName) prog_45_method_52_code (3 : Nat) (Option.some (Jvm.ClassFile.FieldType.object "RowenTongueModel$Value"))) ∈ lw_all := lw_g (lw_at lw_m12 86 rfl) rfl
theorem q2776 : (Jvm.Cond.classLink "RowenTongueModel" (342 : Nat) "RowenTongueModel$Value") ∈ lw_all := lw_g (lw_at lw_m12 87 rfl) rfl
theorem q2778 : (Jvm.Cond.methodLinkNest "RowenTongueModel" (344 : Nat) ({ cls := "RowenTongueModel$Value", name := "<init>", desc := "()V" } : Jvm.MethodName) "RowenTongueModel") ∈ lw_tbl := lw_at lw_m12 89 rfl
theorem q2782 : (Jvm.Cond.fieldLink "RowenTongueModel" (345 : Nat) "RowenTongueModel$Value" "kind" "I") ∈ lw_all := lw_g (lw_at lw_m12 93 rfl) rfl
theorem q2783 : (Jvm.Cond.fieldLink "RowenTongueModel" (346 : Nat) "RowenTongueModel$Value" "v" "I") ∈ lw_all := lw_g (lw_at lw_m12 94 rfl) rfl
theorem q2784 : (Jvm.Cond.fieldLink "RowenTongueModel" (353 : Nat) "RowenTongueModel$Value" "parts" "[LRowenTongueModel$Value;") ∈ lw_all := lw_g (lw_at lw_m12 95 rfl) rfl
theorem q2785 : (Jvm.Cond.fieldLink "RowenTongueModel" (387 : Nat) "RowenTongueModel$Value" "part" "LRowenTongueModel$Value;") ∈ lw_all := lw_g (lw_at lw_m12 96 rfl) rfl
theorem q2786 : (Jvm.Cond.fieldLink "RowenTongueModel" (379 : Nat) "RowenTongueModel$Value" "around" "LRowenTongueModel$Bound;") ∈ lw_all := lw_g (lw_at lw_m12 97 rfl) rfl
theorem q2798 : (Jvm.Cond.classLink "RowenTongueModel" (368 : Nat) "RowenTongueModel$Bound") ∈ lw_all := lw_g (lw_at lw_m12 109 rfl) rfl
theorem q2800 : (Jvm.Cond.methodLink "RowenTongueModel" (380 : Nat) ({ cls := "RowenTongueModel$Bound", name := "<init>", desc := "(ILRowenTongueModel$Value;ILRowenTongueModel$Bound;)V" } : Jvm.MethodName)) ∈ lw_all := lw_g (lw_at lw_m12 111 rfl) rfl
theorem q2805 : (Jvm.Cond.fieldLink "RowenTongueModel" (367 : Nat) "RowenTongueModel$Bound" "name" "I") ∈ lw_all := lw_g (lw_at lw_m12 116 rfl) rfl
theorem q2807 : (Jvm.Cond.fieldLink "RowenTongueModel" (373 : Nat) "RowenTongueModel$Bound" "value" "LRowenTongueModel$Value;") ∈ lw_all := lw_g (lw_at lw_m12 118 rfl) rfl
theorem q2809 : (Jvm.Cond.fieldLink "RowenTongueModel" (376 : Nat) "RowenTongueModel$Bound" "term" "I") ∈ lw_all := lw_g (lw_at lw_m12 120 rfl) rfl
theorem q2811 : (Jvm.Cond.fieldLink "RowenTongueModel" (370 : Nat) "RowenTongueModel$Bound" "around" "LRowenTongueModel$Bound;") ∈ lw_all := lw_g (lw_at lw_m12 122 rfl) rfl
theorem q2821 : (Jvm.Cond.methodLink "RowenTongueModel" (383 : Nat) ({ cls := "RowenTongueModel", name := "record", desc := "(LRowenTongueModel$Value;ILRowenTongueModel$Value;)LRowenTongueModel$Value;" } : Jvm.MethodName)) ∈ lw_all := lw_g (lw_at lw_m12 132 rfl) rfl
theorem q2822 : (Jvm.Cond.static ({ cls := "RowenTongueModel", name := "record", desc := "(LRowenTongueModel$Value;ILRowenTongueModel$Value;)LRowenTongueModel$Value;" } : Jvm.MethodName)) ∈ lw_all := lw_g (lw_at lw_m12 133 rfl) rfl
theorem q2823 : (Jvm.Cond.code ({ cls := "RowenTongueModel", name := "record", desc := "(LRowenTongueModel$Value;ILRowenTongueModel$Value;)LRowenTongueModel$Value;" } : Jvm.MethodName) prog_45_method_53_code (5 : Nat) (Option.some (Jvm.ClassFile.FieldType.object "RowenTongueModel$Value"))) ∈ lw_all := lw_g (lw_at lw_m12 134 rfl) rfl
theorem q2825 : (Jvm.Cond.methodLink "RowenTongueModel" (390 : Nat) ({ cls := "RowenTongueModel", name := "areSame", desc := "(LRowenTongueModel$Value;LRowenTongueModel$Value;)Z" } : Jvm.MethodName)) ∈ lw_all := lw_g (lw_at lw_m12 136 rfl) rfl
theorem q2826 : (Jvm.Cond.privateMethod ({ cls := "RowenTongueModel", name := "areSame", desc := "(LRowenTongueModel$Value;LRowenTongueModel$Value;)Z" } : Jvm.MethodName)) ∈ lw_tbl := lw_at lw_m12 137 rfl
theorem q2827 : (Jvm.Cond.instanceMethod ({ cls := "RowenTongueModel", name := "areSame", desc := "(LRowenTongueModel$Value;LRowenTongueModel$Value;)Z" } : Jvm.MethodName)) ∈ lw_all := lw_g (lw_at lw_m12 138 rfl) rfl
theorem q2828 : (Jvm.Cond.code ({ cls := "RowenTongueModel", name := "areSame", desc := "(LRowenTongueModel$Value;LRowenTongueModel$Value;)Z" } : Jvm.MethodName) prog_45_method_55_code (5 : Nat) (Option.some Jvm.ClassFile.FieldType.boolean)) ∈ lw_all := lw_g (lw_at lw_m12 139 rfl) rfl
theorem q2829 : (Jvm.Cond.methodLink "RowenTongueModel" (400 : Nat) ({ cls := "RowenTongueModel", name := "putValue", desc := "(LRowenTongueModel$Value;Ljava/lang/StringBuilder;)V" } : Jvm.MethodName)) ∈ lw_all := lw_g (lw_at lw_m12 140 rfl) rfl
theorem q2830 : (Jvm.Cond.static ({ cls := "RowenTongueModel", name := "putValue", desc := "(LRowenTongueModel$Value;Ljava/lang/StringBuilder;)V" } : Jvm.MethodName)) ∈ lw_all := lw_g (lw_at lw_m12 141 rfl) rfl
theorem q2831 : (Jvm.Cond.code ({ cls := "RowenTongueModel", name := "putValue", desc := "(LRowenTongueModel$Value;Ljava/lang/StringBuilder;)V" } : Jvm.MethodName) prog_45_method_56_code (4 : Nat) (Option.none : Option Jvm.ClassFile.FieldType)) ∈ lw_all := lw_g (lw_at lw_m12 142 rfl) rfl
theorem q2832 : (Jvm.Cond.methodLink "RowenTongueModel" (394 : Nat) ({ cls := "java/lang/StringBuilder", name := "append", desc := "(Ljava/lang/String;)Ljava/lang/StringBuilder;" } : Jvm.MethodName)) ∈ lw_all := lw_g (lw_at lw_m12 143 rfl) rfl
theorem q2833 : (Jvm.Cond.methodLink "RowenTongueModel" (397 : Nat) ({ cls := "java/lang/StringBuilder", name := "append", desc := "(I)Ljava/lang/StringBuilder;" } : Jvm.MethodName)) ∈ lw_all := lw_g (lw_at lw_m12 144 rfl) rfl
theorem q2835 : (Jvm.Cond.instanceMethod ({ cls := "RowenTongueModel", name := "steps", desc := "()I" } : Jvm.MethodName)) ∈ lw_all := lw_g (lw_at lw_m12 146 rfl) rfl
theorem q2836 : (Jvm.Cond.selects "RowenTongueModel" ({ cls := "RowenTongueModel", name := "steps", desc := "()I" } : Jvm.MethodName) ({ cls := "RowenTongueModel", name := "steps", desc := "()I" } : Jvm.MethodName)) ∈ lw_all := lw_g (lw_at lw_m12 147 rfl) rfl
theorem q2837 : (Jvm.Cond.code ({ cls := "RowenTongueModel", name := "steps", desc := "()I" } : Jvm.MethodName) prog_45_method_58_code (1 : Nat) (Option.some Jvm.ClassFile.FieldType.int)) ∈ lw_all := lw_g (lw_at lw_m12 148 rfl) rfl
theorem q2839 : (Jvm.Cond.instanceMethod ({ cls := "RowenTongueModel", name := "result", desc := "(I)C" } : Jvm.MethodName)) ∈ lw_all := lw_g (lw_at lw_m12 150 rfl) rfl
theorem q2840 : (Jvm.Cond.selects "RowenTongueModel" ({ cls := "RowenTongueModel", name := "result", desc := "(I)C" } : Jvm.MethodName) ({ cls := "RowenTongueModel", name := "result", desc := "(I)C" } : Jvm.MethodName)) ∈ lw_all := lw_g (lw_at lw_m12 151 rfl) rfl
theorem q2841 : (Jvm.Cond.code ({ cls := "RowenTongueModel", name := "result", desc := "(I)C" } : Jvm.MethodName) prog_45_method_59_code (2 : Nat) (Option.some Jvm.ClassFile.FieldType.char)) ∈ lw_all := lw_g (lw_at lw_m12 152 rfl) rfl
theorem q2843 : (Jvm.Cond.instanceMethod ({ cls := "RowenTongueModel", name := "agrees", desc := "(I)Z" } : Jvm.MethodName)) ∈ lw_all := lw_g (lw_at lw_m12 154 rfl) rfl
theorem q2844 : (Jvm.Cond.selects "RowenTongueModel" ({ cls := "RowenTongueModel", name := "agrees", desc := "(I)Z" } : Jvm.MethodName) ({ cls := "RowenTongueModel", name := "agrees", desc := "(I)Z" } : Jvm.MethodName)) ∈ lw_all := lw_g (lw_at lw_m12 155 rfl) rfl
theorem q2845 : (Jvm.Cond.code ({ cls := "RowenTongueModel", name := "agrees", desc := "(I)Z" } : Jvm.MethodName) prog_45_method_60_code (3 : Nat) (Option.some Jvm.ClassFile.FieldType.boolean)) ∈ lw_all := lw_g (lw_at lw_m12 156 rfl) rfl
theorem q2847 : (Jvm.Cond.instanceMethod ({ cls := "RowenTongueModel", name := "places", desc := "(II)I" } : Jvm.MethodName)) ∈ lw_all := lw_g (lw_at lw_m12 158 rfl) rfl
theorem q2848 : (Jvm.Cond.selects "RowenTongueModel" ({ cls := "RowenTongueModel", name := "places", desc := "(II)I" } : Jvm.MethodName) ({ cls := "RowenTongueModel", name := "places", desc := "(II)I" } : Jvm.MethodName)) ∈ lw_all := lw_g (lw_at lw_m12 159 rfl) rfl
theorem q2849 : (Jvm.Cond.code ({ cls := "RowenTongueModel", name := "places", desc := "(II)I" } : Jvm.MethodName) prog_45_method_61_code (5 : Nat) (Option.some Jvm.ClassFile.FieldType.int)) ∈ lw_all := lw_g (lw_at lw_m12 160 rfl) rfl
theorem q2889 : (Jvm.Cond.castable "RowenTongueModel" "java/lang/Object") ∈ lw_tbl := lw_at lw_m12 200 rfl
theorem in_X2 : ∀ w ∈ wsX20, w ∈ lw_all := lw_in wsX20 [2395, 2397, 2399, 2401, 2403, 2405, 2407, 2409, 2411, 2413, 2415, 2417, 2419, 2421, 2423, 2425, 2427] (by decide +kernel) (by decide +kernel)
